/-! code tables and their rows -/
set_option maxRecDepth 100000
theorem r41_0 : Sd gd_mt M41 0 (i_ald 0 1) := sd_aload_n dX1_init_0 rfl rfl
theorem r41_1 : Sd gd_mt M41 1 (i_oin 4) := sd_oin q125 gd_oi1 gd_oi2 dX1_init_1 rfl
theorem r41_4 : Sd gd_mt M41 4 (i_msk [true] (i_ald 0 5)) := sd_msk _ (sd_aload_n dX1_init_4 rfl rfl)
theorem r41_5 : Sd gd_mt M41 5 (i_psh (.int 600) 8) := sd_sipush dX1_init_5 (by decide) rfl
theorem r41_8 : Sd gd_mt M41 8 (i_newa 32 10) := sd_newa (t := 32) (at9 := .byte) rfl rfl (by decide) (fun G s h => (h.2.2.1 32 _ rfl).2) q139 dX1_init_8 rfl
theorem r41_10 : Sd gd_mt M41 10 (i_putR 1 0 13) := sd_putR ck1 (by decide) rfl (.inl q356) (.inr ⟨rfl, rfl, rfl⟩) dX1_init_10 rfl
theorem r41_13 : Sd gd_mt M41 13 (i_ald 0 14) := sd_aload_n dX1_init_13 rfl rfl
theorem r41_14 : Sd gd_mt M41 14 (i_new 2 1 17) := sd_new ck2 (by decide) q128 q129 q87 dX1_init_14 rfl
theorem r41_17 : Sd gd_mt M41 17 (i_dup 18) := sd_dup dX1_init_17 rfl
theorem r41_18 : Sd gd_mt M41 18 (i_cV 134 0 2 21) := sd_cIN2 e134 cal134 q130 rfl rfl rfl q131 (rfl : gd_cl 2 = some _) dX1_init_18 rfl
theorem r41_21 : Sd gd_mt M41 21 (i_msk [true] (i_putR 1 1 24)) := sd_msk _ (sd_putR ck1 (by decide) rfl (.inl q357) (.inr ⟨rfl, rfl, rfl⟩) dX1_init_21 rfl)
theorem r41_24 : Sd gd_mt M41 24 (i_ald 0 25) := sd_aload_n dX1_init_24 rfl rfl
theorem r41_25 : Sd gd_mt M41 25 (i_new 3 2 28) := sd_new ck3 (by decide) q140 q141 q88 dX1_init_25 rfl
theorem r41_28 : Sd gd_mt M41 28 (i_dup 29) := sd_dup dX1_init_28 rfl
theorem r41_29 : Sd gd_mt M41 29 (i_ald 0 30) := sd_aload_n dX1_init_29 rfl rfl
theorem r41_30 : Sd gd_mt M41 30 (i_getR 1 1 33) := sd_getR ck1 (by decide) rfl (.inl q357) dX1_init_30 rfl
theorem r41_33 : Sd gd_mt M41 33 (i_cV 144 1 3 36) := sd_cI2 e144 cal144 q142 rfl rfl rfl q143 (rfl : gd_cl 3 = some _) dX1_init_33 rfl
theorem r41_36 : Sd gd_mt M41 36 (i_msk [true] (i_putR 1 2 39)) := sd_msk _ (sd_putR ck1 (by decide) rfl (.inl q358) (.inr ⟨rfl, rfl, rfl⟩) dX1_init_36 rfl)
theorem r41_39 : Sd gd_mt M41 39 (i_ald 0 40) := sd_aload_n dX1_init_39 rfl rfl
theorem r41_40 : Sd gd_mt M41 40 (i_psh (.int 3) 41) := sd_iconst dX1_init_40 (by decide) rfl
theorem r41_41 : Sd gd_mt M41 41 (i_newa 36 44) := sd_anewa (rfl : gd_ety 36 = some (.object _)) q140 q317 dX1_init_41 rfl
theorem r41_44 : Sd gd_mt M41 44 (i_dup 45) := sd_dup dX1_init_44 rfl
theorem r41_45 : Sd gd_mt M41 45 (i_psh (.int 0) 46) := sd_iconst dX1_init_45 (by decide) rfl
theorem r41_46 : Sd gd_mt M41 46 (i_new 3 2 49) := sd_new ck3 (by decide) q140 q141 q88 dX1_init_46 rfl
theorem r41_49 : Sd gd_mt M41 49 (i_dup 50) := sd_dup dX1_init_49 rfl
theorem r41_50 : Sd gd_mt M41 50 (i_ald 0 51) := sd_aload_n dX1_init_50 rfl rfl
theorem r41_51 : Sd gd_mt M41 51 (i_getR 1 1 54) := sd_getR ck1 (by decide) rfl (.inl q357) dX1_init_51 rfl
theorem r41_54 : Sd gd_mt M41 54 (i_cV 144 1 3 57) := sd_cI2 e144 cal144 q142 rfl rfl rfl q143 (rfl : gd_cl 3 = some _) dX1_init_54 rfl
theorem r41_57 : Sd gd_mt M41 57 (i_msk [true] (i_astR 36 [3] 58)) := sd_msk _ (sd_astR (rfl : gd_ety 36 = some (.object _)) gd_as36 dX1_init_57 rfl)
theorem r41_58 : Sd gd_mt M41 58 (i_dup 59) := sd_dup dX1_init_58 rfl
theorem r41_59 : Sd gd_mt M41 59 (i_psh (.int 1) 60) := sd_iconst dX1_init_59 (by decide) rfl
theorem r41_60 : Sd gd_mt M41 60 (i_new 3 2 63) := sd_new ck3 (by decide) q140 q141 q88 dX1_init_60 rfl
theorem r41_63 : Sd gd_mt M41 63 (i_dup 64) := sd_dup dX1_init_63 rfl
theorem r41_64 : Sd gd_mt M41 64 (i_ald 0 65) := sd_aload_n dX1_init_64 rfl rfl
theorem r41_65 : Sd gd_mt M41 65 (i_getR 1 1 68) := sd_getR ck1 (by decide) rfl (.inl q357) dX1_init_65 rfl
theorem r41_68 : Sd gd_mt M41 68 (i_cV 144 1 3 71) := sd_cI2 e144 cal144 q142 rfl rfl rfl q143 (rfl : gd_cl 3 = some _) dX1_init_68 rfl
theorem r41_71 : Sd gd_mt M41 71 (i_msk [true] (i_astR 36 [3] 72)) := sd_msk _ (sd_astR (rfl : gd_ety 36 = some (.object _)) gd_as36 dX1_init_71 rfl)
theorem r41_72 : Sd gd_mt M41 72 (i_dup 73) := sd_dup dX1_init_72 rfl
theorem r41_73 : Sd gd_mt M41 73 (i_psh (.int 2) 74) := sd_iconst dX1_init_73 (by decide) rfl
theorem r41_74 : Sd gd_mt M41 74 (i_new 3 2 77) := sd_new ck3 (by decide) q140 q141 q88 dX1_init_74 rfl
theorem r41_77 : Sd gd_mt M41 77 (i_dup 78) := sd_dup dX1_init_77 rfl
theorem r41_78 : Sd gd_mt M41 78 (i_ald 0 79) := sd_aload_n dX1_init_78 rfl rfl
theorem r41_79 : Sd gd_mt M41 79 (i_getR 1 1 82) := sd_getR ck1 (by decide) rfl (.inl q357) dX1_init_79 rfl
theorem r41_82 : Sd gd_mt M41 82 (i_cV 144 1 3 85) := sd_cI2 e144 cal144 q142 rfl rfl rfl q143 (rfl : gd_cl 3 = some _) dX1_init_82 rfl
theorem r41_85 : Sd gd_mt M41 85 (i_msk [true] (i_astR 36 [3] 86)) := sd_msk _ (sd_astR (rfl : gd_ety 36 = some (.object _)) gd_as36 dX1_init_85 rfl)
theorem r41_86 : Sd gd_mt M41 86 (i_putR 1 3 89) := sd_putR ck1 (by decide) rfl (.inl q359) (.inr ⟨rfl, rfl, rfl⟩) dX1_init_86 rfl
theorem r41_89 : Sd gd_mt M41 89 (i_ald 0 90) := sd_aload_n dX1_init_89 rfl rfl
theorem r41_90 : Sd gd_mt M41 90 (i_new 4 14 93) := sd_new ck4 (by decide) q318 q148 q89 dX1_init_90 rfl
def cl41_0 : List (Nat × gd_I) := [(0, i_ald 0 1), (1, i_oin 4), (4, i_msk [true] (i_ald 0 5)), (5, i_psh (.int 600) 8), (8, i_newa 32 10), (10, i_putR 1 0 13), (13, i_ald 0 14), (14, i_new 2 1 17), (17, i_dup 18), (18, i_cV 134 0 2 21), (21, i_msk [true] (i_putR 1 1 24)), (24, i_ald 0 25), (25, i_new 3 2 28), (28, i_dup 29), (29, i_ald 0 30), (30, i_getR 1 1 33), (33, i_cV 144 1 3 36), (36, i_msk [true] (i_putR 1 2 39)), (39, i_ald 0 40), (40, i_psh (.int 3) 41), (41, i_newa 36 44), (44, i_dup 45), (45, i_psh (.int 0) 46), (46, i_new 3 2 49), (49, i_dup 50), (50, i_ald 0 51), (51, i_getR 1 1 54), (54, i_cV 144 1 3 57), (57, i_msk [true] (i_astR 36 [3] 58)), (58, i_dup 59), (59, i_psh (.int 1) 60), (60, i_new 3 2 63), (63, i_dup 64), (64, i_ald 0 65), (65, i_getR 1 1 68), (68, i_cV 144 1 3 71), (71, i_msk [true] (i_astR 36 [3] 72)), (72, i_dup 73), (73, i_psh (.int 2) 74), (74, i_new 3 2 77), (77, i_dup 78), (78, i_ald 0 79), (79, i_getR 1 1 82), (82, i_cV 144 1 3 85), (85, i_msk [true] (i_astR 36 [3] 86)), (86, i_putR 1 3 89), (89, i_ald 0 90), (90, i_new 4 14 93)]
theorem cs41_0 : ∀ q ∈ cl41_0, Sd gd_mt M41 q.1 q.2 := gd_ac r41_0 (gd_ac r41_1 (gd_ac r41_4 (gd_ac r41_5 (gd_ac r41_8 (gd_ac r41_10 (gd_ac r41_13 (gd_ac r41_14 (gd_ac r41_17 (gd_ac r41_18 (gd_ac r41_21 (gd_ac r41_24 (gd_ac r41_25 (gd_ac r41_28 (gd_ac r41_29 (gd_ac r41_30 (gd_ac r41_33 (gd_ac r41_36 (gd_ac r41_39 (gd_ac r41_40 (gd_ac r41_41 (gd_ac r41_44 (gd_ac r41_45 (gd_ac r41_46 (gd_ac r41_49 (gd_ac r41_50 (gd_ac r41_51 (gd_ac r41_54 (gd_ac r41_57 (gd_ac r41_58 (gd_ac r41_59 (gd_ac r41_60 (gd_ac r41_63 (gd_ac r41_64 (gd_ac r41_65 (gd_ac r41_68 (gd_ac r41_71 (gd_ac r41_72 (gd_ac r41_73 (gd_ac r41_74 (gd_ac r41_77 (gd_ac r41_78 (gd_ac r41_79 (gd_ac r41_82 (gd_ac r41_85 (gd_ac r41_86 (gd_ac r41_89 (gd_ac r41_90 (gd_an))))))))))))))))))))))))))))))))))))))))))))))))
theorem r41_93 : Sd gd_mt M41 93 (i_dup 94) := sd_dup dX1_init_93 rfl
theorem r41_94 : Sd gd_mt M41 94 (i_ald 0 95) := sd_aload_n dX1_init_94 rfl rfl
theorem r41_95 : Sd gd_mt M41 95 (i_getR 1 1 98) := sd_getR ck1 (by decide) rfl (.inl q357) dX1_init_95 rfl
theorem r41_98 : Sd gd_mt M41 98 (i_cV 147 1 4 101) := sd_cI2 e147 cal147 q319 rfl rfl rfl q150 (rfl : gd_cl 4 = some _) dX1_init_98 rfl
theorem r41_101 : Sd gd_mt M41 101 (i_msk [true] (i_putR 1 4 104)) := sd_msk _ (sd_putR ck1 (by decide) rfl (.inl q360) (.inr ⟨rfl, rfl, rfl⟩) dX1_init_101 rfl)
theorem r41_104 : Sd gd_mt M41 104 (i_ald 0 105) := sd_aload_n dX1_init_104 rfl rfl
theorem r41_105 : Sd gd_mt M41 105 (i_new 7 4 108) := sd_new ck7 (by decide) q320 q321 q92 dX1_init_105 rfl
theorem r41_108 : Sd gd_mt M41 108 (i_dup 109) := sd_dup dX1_init_108 rfl
theorem r41_109 : Sd gd_mt M41 109 (i_cV 172 0 7 112) := sd_cIN2 e172 cal172 q322 rfl rfl rfl q323 (rfl : gd_cl 7 = some _) dX1_init_109 rfl
theorem r41_112 : Sd gd_mt M41 112 (i_msk [true] (i_putR 1 5 115)) := sd_msk _ (sd_putR ck1 (by decide) rfl (.inl q361) (.inr ⟨rfl, rfl, rfl⟩) dX1_init_112 rfl)
theorem r41_115 : Sd gd_mt M41 115 (i_ald 0 116) := sd_aload_n dX1_init_115 rfl rfl
theorem r41_116 : Sd gd_mt M41 116 (i_new 5 8 119) := sd_new ck5 (by decide) q341 q154 q90 dX1_init_116 rfl
theorem r41_119 : Sd gd_mt M41 119 (i_dup 120) := sd_dup dX1_init_119 rfl
theorem r41_120 : Sd gd_mt M41 120 (i_cV 169 0 5 123) := sd_cIN2 e169 cal169 q342 rfl rfl rfl q156 (rfl : gd_cl 5 = some _) dX1_init_120 rfl
theorem r41_123 : Sd gd_mt M41 123 (i_msk [true] (i_putR 1 6 126)) := sd_msk _ (sd_putR ck1 (by decide) rfl (.inl q362) (.inr ⟨rfl, rfl, rfl⟩) dX1_init_123 rfl)
theorem r41_126 : Sd gd_mt M41 126 (i_ald 0 127) := sd_aload_n dX1_init_126 rfl rfl
theorem r41_127 : Sd gd_mt M41 127 (i_psh (.int 2) 128) := sd_iconst dX1_init_127 (by decide) rfl
theorem r41_128 : Sd gd_mt M41 128 (i_newa 31 130) := sd_newa (t := 31) (at9 := .int) rfl rfl (by decide) (fun G s h => (h.2.2.1 31 _ rfl).2) q201 dX1_init_128 rfl
theorem r41_130 : Sd gd_mt M41 130 (i_putR 1 7 133) := sd_putR ck1 (by decide) rfl (.inl q363) (.inr ⟨rfl, rfl, rfl⟩) dX1_init_130 rfl
theorem r41_133 : Sd gd_mt M41 133 (i_ald 0 134) := sd_aload_n dX1_init_133 rfl rfl
theorem r41_134 : Sd gd_mt M41 134 (i_psh (.int 6) 136) := sd_bipush dX1_init_134 (by decide) rfl
theorem r41_136 : Sd gd_mt M41 136 (i_newa 31 138) := sd_newa (t := 31) (at9 := .int) rfl rfl (by decide) (fun G s h => (h.2.2.1 31 _ rfl).2) q201 dX1_init_136 rfl
theorem r41_138 : Sd gd_mt M41 138 (i_putR 1 8 141) := sd_putR ck1 (by decide) rfl (.inl q364) (.inr ⟨rfl, rfl, rfl⟩) dX1_init_138 rfl
theorem r41_141 : Sd gd_mt M41 141 (i_ald 0 142) := sd_aload_n dX1_init_141 rfl rfl
theorem r41_142 : Sd gd_mt M41 142 (i_psh (.int 6) 144) := sd_bipush dX1_init_142 (by decide) rfl
theorem r41_144 : Sd gd_mt M41 144 (i_newa 31 146) := sd_newa (t := 31) (at9 := .int) rfl rfl (by decide) (fun G s h => (h.2.2.1 31 _ rfl).2) q201 dX1_init_144 rfl
theorem r41_146 : Sd gd_mt M41 146 (i_putR 1 9 149) := sd_putR ck1 (by decide) rfl (.inl q365) (.inr ⟨rfl, rfl, rfl⟩) dX1_init_146 rfl
theorem r41_149 : Sd gd_mt M41 149 (i_ald 0 150) := sd_aload_n dX1_init_149 rfl rfl
theorem r41_150 : Sd gd_mt M41 150 (i_psh (.int 13) 152) := sd_bipush dX1_init_150 (by decide) rfl
theorem r41_152 : Sd gd_mt M41 152 (i_newa 31 154) := sd_newa (t := 31) (at9 := .int) rfl rfl (by decide) (fun G s h => (h.2.2.1 31 _ rfl).2) q201 dX1_init_152 rfl
theorem r41_154 : Sd gd_mt M41 154 (i_putR 1 10 157) := sd_putR ck1 (by decide) rfl (.inl q366) (.inr ⟨rfl, rfl, rfl⟩) dX1_init_154 rfl
theorem r41_157 : Sd gd_mt M41 157 (i_ald 0 158) := sd_aload_n dX1_init_157 rfl rfl
theorem r41_158 : Sd gd_mt M41 158 (i_psh (.int 1000) 161) := sd_sipush dX1_init_158 (by decide) rfl
theorem r41_161 : Sd gd_mt M41 161 (i_newa 31 163) := sd_newa (t := 31) (at9 := .int) rfl rfl (by decide) (fun G s h => (h.2.2.1 31 _ rfl).2) q201 dX1_init_161 rfl
theorem r41_163 : Sd gd_mt M41 163 (i_putR 1 11 166) := sd_putR ck1 (by decide) rfl (.inl q367) (.inr ⟨rfl, rfl, rfl⟩) dX1_init_163 rfl
theorem r41_166 : Sd gd_mt M41 166 (i_ald 0 167) := sd_aload_n dX1_init_166 rfl rfl
theorem r41_167 : Sd gd_mt M41 167 (i_psh (.int 7) 169) := sd_bipush dX1_init_167 (by decide) rfl
theorem r41_169 : Sd gd_mt M41 169 (i_newa 31 171) := sd_newa (t := 31) (at9 := .int) rfl rfl (by decide) (fun G s h => (h.2.2.1 31 _ rfl).2) q201 dX1_init_169 rfl
theorem r41_171 : Sd gd_mt M41 171 (i_putR 1 12 174) := sd_putR ck1 (by decide) rfl (.inl q368) (.inr ⟨rfl, rfl, rfl⟩) dX1_init_171 rfl
theorem r41_174 : Sd gd_mt M41 174 (i_ald 0 175) := sd_aload_n dX1_init_174 rfl rfl
theorem r41_175 : Sd gd_mt M41 175 (i_psh (.int 7) 177) := sd_bipush dX1_init_175 (by decide) rfl
theorem r41_177 : Sd gd_mt M41 177 (i_newa 31 179) := sd_newa (t := 31) (at9 := .int) rfl rfl (by decide) (fun G s h => (h.2.2.1 31 _ rfl).2) q201 dX1_init_177 rfl
theorem r41_179 : Sd gd_mt M41 179 (i_putR 1 13 182) := sd_putR ck1 (by decide) rfl (.inl q369) (.inr ⟨rfl, rfl, rfl⟩) dX1_init_179 rfl
theorem r41_182 : Sd gd_mt M41 182 (i_ald 0 183) := sd_aload_n dX1_init_182 rfl rfl
theorem r41_183 : Sd gd_mt M41 183 (i_psh (.int 13) 185) := sd_bipush dX1_init_183 (by decide) rfl
theorem r41_185 : Sd gd_mt M41 185 (i_newa 34 187) := sd_newa (t := 34) (at9 := .long) rfl rfl (by decide) (fun G s h => (h.2.2.1 34 _ rfl).2) q426 dX1_init_185 rfl
theorem r41_187 : Sd gd_mt M41 187 (i_putR 1 14 190) := sd_putR ck1 (by decide) rfl (.inl q370) (.inr ⟨rfl, rfl, rfl⟩) dX1_init_187 rfl
theorem r41_190 : Sd gd_mt M41 190 (i_ald 0 191) := sd_aload_n dX1_init_190 rfl rfl
def cl41_1 : List (Nat × gd_I) := [(93, i_dup 94), (94, i_ald 0 95), (95, i_getR 1 1 98), (98, i_cV 147 1 4 101), (101, i_msk [true] (i_putR 1 4 104)), (104, i_ald 0 105), (105, i_new 7 4 108), (108, i_dup 109), (109, i_cV 172 0 7 112), (112, i_msk [true] (i_putR 1 5 115)), (115, i_ald 0 116), (116, i_new 5 8 119), (119, i_dup 120), (120, i_cV 169 0 5 123), (123, i_msk [true] (i_putR 1 6 126)), (126, i_ald 0 127), (127, i_psh (.int 2) 128), (128, i_newa 31 130), (130, i_putR 1 7 133), (133, i_ald 0 134), (134, i_psh (.int 6) 136), (136, i_newa 31 138), (138, i_putR 1 8 141), (141, i_ald 0 142), (142, i_psh (.int 6) 144), (144, i_newa 31 146), (146, i_putR 1 9 149), (149, i_ald 0 150), (150, i_psh (.int 13) 152), (152, i_newa 31 154), (154, i_putR 1 10 157), (157, i_ald 0 158), (158, i_psh (.int 1000) 161), (161, i_newa 31 163), (163, i_putR 1 11 166), (166, i_ald 0 167), (167, i_psh (.int 7) 169), (169, i_newa 31 171), (171, i_putR 1 12 174), (174, i_ald 0 175), (175, i_psh (.int 7) 177), (177, i_newa 31 179), (179, i_putR 1 13 182), (182, i_ald 0 183), (183, i_psh (.int 13) 185), (185, i_newa 34 187), (187, i_putR 1 14 190), (190, i_ald 0 191)]
theorem cs41_1 : ∀ q ∈ cl41_1, Sd gd_mt M41 q.1 q.2 := gd_ac r41_93 (gd_ac r41_94 (gd_ac r41_95 (gd_ac r41_98 (gd_ac r41_101 (gd_ac r41_104 (gd_ac r41_105 (gd_ac r41_108 (gd_ac r41_109 (gd_ac r41_112 (gd_ac r41_115 (gd_ac r41_116 (gd_ac r41_119 (gd_ac r41_120 (gd_ac r41_123 (gd_ac r41_126 (gd_ac r41_127 (gd_ac r41_128 (gd_ac r41_130 (gd_ac r41_133 (gd_ac r41_134 (gd_ac r41_136 (gd_ac r41_138 (gd_ac r41_141 (gd_ac r41_142 (gd_ac r41_144 (gd_ac r41_146 (gd_ac r41_149 (gd_ac r41_150 (gd_ac r41_152 (gd_ac r41_154 (gd_ac r41_157 (gd_ac r41_158 (gd_ac r41_161 (gd_ac r41_163 (gd_ac r41_166 (gd_ac r41_167 (gd_ac r41_169 (gd_ac r41_171 (gd_ac r41_174 (gd_ac r41_175 (gd_ac r41_177 (gd_ac r41_179 (gd_ac r41_182 (gd_ac r41_183 (gd_ac r41_185 (gd_ac r41_187 (gd_ac r41_190 (gd_an))))))))))))))))))))))))))))))))))))))))))))))))
theorem r41_191 : Sd gd_mt M41 191 (i_new 6 8 194) := sd_new ck6 (by decide) q343 q203 q91 dX1_init_191 rfl
theorem r41_194 : Sd gd_mt M41 194 (i_dup 195) := sd_dup dX1_init_194 rfl
theorem r41_195 : Sd gd_mt M41 195 (i_cV 171 0 6 198) := sd_cI2 e171 cal171 q344 rfl rfl rfl q205 (rfl : gd_cl 6 = some _) dX1_init_195 rfl
theorem r41_198 : Sd gd_mt M41 198 (i_msk [true] (i_putR 1 15 201)) := sd_msk _ (sd_putR ck1 (by decide) rfl (.inl q371) (.inl rfl) dX1_init_198 rfl)
theorem r41_201 : Sd gd_mt M41 201 (i_ald 0 202) := sd_aload_n dX1_init_201 rfl rfl
theorem r41_202 : Sd gd_mt M41 202 (i_psh (.int (-1)) 203) := sd_iconst dX1_init_202 (by decide) rfl
theorem r41_203 : Sd gd_mt M41 203 (i_putI 1 17 206) := sd_putI ck1 (by decide) rfl (.inl q373) (.inl rfl) dX1_init_203 rfl
theorem r41_206 : Sd gd_mt M41 206 (i_ald 0 207) := sd_aload_n dX1_init_206 rfl rfl
theorem r41_207 : Sd gd_mt M41 207 (i_getR 1 2 210) := sd_getR ck1 (by decide) rfl (.inl q358) dX1_init_207 rfl
theorem r41_210 : Sd gd_mt M41 210 (i_cV 145 0 3 213) := sd_cV2 e145 cal145 q345 q346 (rfl : gd_cl 3 = some _) q347 dX1_init_210 rfl
theorem r41_213 : Sd gd_mt M41 213 (i_msk [true] (i_ald 0 214)) := sd_msk _ (sd_aload_n dX1_init_213 rfl rfl)
theorem r41_214 : Sd gd_mt M41 214 (i_getR 1 15 217) := sd_getR ck1 (by decide) rfl (.inl q371) dX1_init_214 rfl
theorem r41_217 : Sd gd_mt M41 217 (i_cV 148 1 4 220) := sd_cV2 e148 cal148 q349 q350 (rfl : gd_cl 4 = some _) q351 dX1_init_217 rfl
theorem r41_220 : Sd gd_mt M41 220 (i_msk [false] (i_ret)) := sd_msk _ (sd_ret rfl dX1_init_220)
def cl41_2 : List (Nat × gd_I) := [(191, i_new 6 8 194), (194, i_dup 195), (195, i_cV 171 0 6 198), (198, i_msk [true] (i_putR 1 15 201)), (201, i_ald 0 202), (202, i_psh (.int (-1)) 203), (203, i_putI 1 17 206), (206, i_ald 0 207), (207, i_getR 1 2 210), (210, i_cV 145 0 3 213), (213, i_msk [true] (i_ald 0 214)), (214, i_getR 1 15 217), (217, i_cV 148 1 4 220), (220, i_msk [false] (i_ret))]
theorem cs41_2 : ∀ q ∈ cl41_2, Sd gd_mt M41 q.1 q.2 := gd_ac r41_191 (gd_ac r41_194 (gd_ac r41_195 (gd_ac r41_198 (gd_ac r41_201 (gd_ac r41_202 (gd_ac r41_203 (gd_ac r41_206 (gd_ac r41_207 (gd_ac r41_210 (gd_ac r41_213 (gd_ac r41_214 (gd_ac r41_217 (gd_ac r41_220 (gd_an))))))))))))))
def cd41 (pc : Nat) : gd_I := if pc < 93 then lkI cl41_0 pc else if pc < 191 then lkI cl41_1 pc else lkI cl41_2 pc
theorem cg41 : ∀ pc, Sd gd_mt M41 pc (cd41 pc) := by
  intro pc
  unfold cd41
  by_cases h0 : pc < 93
  · rw [if_pos h0]; exact sd_lk cs41_0 pc
  rw [if_neg h0]
  by_cases h1 : pc < 191
  · rw [if_pos h1]; exact sd_lk cs41_1 pc
  rw [if_neg h1]
  exact sd_lk cs41_2 pc
theorem r42_0 : Sd gd_mt M42 0 (i_ald 0 1) := sd_aload_n dX1_feed_0 rfl rfl
theorem r42_1 : Sd gd_mt M42 1 (i_getI 1 16 4) := sd_getI ck1 (by decide) rfl (.inl q372) dX1_feed_1 rfl
theorem r42_4 : Sd gd_mt M42 4 (i_psh (.int 20) 6) := sd_bipush dX1_feed_4 (by decide) rfl
theorem r42_6 : Sd gd_mt M42 6 (i_iadd 7) := sd_iadd dX1_feed_6 rfl
theorem r42_7 : Sd gd_mt M42 7 (i_psh (.int 600) 10) := sd_sipush dX1_feed_7 (by decide) rfl
theorem r42_10 : Sd gd_mt M42 10 (i_icle 15 13) := sd_icle dX1_feed_10 (by decide) rfl
theorem r42_13 : Sd gd_mt M42 13 (i_psh (.int (-1)) 14) := sd_iconst dX1_feed_13 (by decide) rfl
theorem r42_14 : Sd gd_mt M42 14 (i_iret) := sd_iret rfl dX1_feed_14
theorem r42_15 : Sd gd_mt M42 15 (i_psh (.int 5) 16) := sd_iconst dX1_feed_15 (by decide) rfl
theorem r42_16 : Sd gd_mt M42 16 (i_newa 31 18) := sd_newa (t := 31) (at9 := .int) rfl rfl (by decide) (fun G s h => (h.2.2.1 31 _ rfl).2) q201 dX1_feed_16 rfl
theorem r42_18 : Sd gd_mt M42 18 (i_dup 19) := sd_dup dX1_feed_18 rfl
theorem r42_19 : Sd gd_mt M42 19 (i_psh (.int 0) 20) := sd_iconst dX1_feed_19 (by decide) rfl
theorem r42_20 : Sd gd_mt M42 20 (i_ild 1 21) := sd_iload_n dX1_feed_20 rfl rfl
theorem r42_21 : Sd gd_mt M42 21 (i_astI 22) := sd_astI dX1_feed_21 rfl
theorem r42_22 : Sd gd_mt M42 22 (i_dup 23) := sd_dup dX1_feed_22 rfl
theorem r42_23 : Sd gd_mt M42 23 (i_psh (.int 1) 24) := sd_iconst dX1_feed_23 (by decide) rfl
theorem r42_24 : Sd gd_mt M42 24 (i_ild 2 25) := sd_iload_n dX1_feed_24 rfl rfl
theorem r42_25 : Sd gd_mt M42 25 (i_astI 26) := sd_astI dX1_feed_25 rfl
theorem r42_26 : Sd gd_mt M42 26 (i_dup 27) := sd_dup dX1_feed_26 rfl
theorem r42_27 : Sd gd_mt M42 27 (i_psh (.int 2) 28) := sd_iconst dX1_feed_27 (by decide) rfl
theorem r42_28 : Sd gd_mt M42 28 (i_ild 3 29) := sd_iload_n dX1_feed_28 rfl rfl
theorem r42_29 : Sd gd_mt M42 29 (i_astI 30) := sd_astI dX1_feed_29 rfl
theorem r42_30 : Sd gd_mt M42 30 (i_dup 31) := sd_dup dX1_feed_30 rfl
theorem r42_31 : Sd gd_mt M42 31 (i_psh (.int 3) 32) := sd_iconst dX1_feed_31 (by decide) rfl
theorem r42_32 : Sd gd_mt M42 32 (i_ild 4 34) := sd_iload dX1_feed_32 rfl
theorem r42_34 : Sd gd_mt M42 34 (i_astI 35) := sd_astI dX1_feed_34 rfl
theorem r42_35 : Sd gd_mt M42 35 (i_dup 36) := sd_dup dX1_feed_35 rfl
theorem r42_36 : Sd gd_mt M42 36 (i_psh (.int 4) 37) := sd_iconst dX1_feed_36 (by decide) rfl
theorem r42_37 : Sd gd_mt M42 37 (i_ild 5 39) := sd_iload dX1_feed_37 rfl
theorem r42_39 : Sd gd_mt M42 39 (i_astI 40) := sd_astI dX1_feed_39 rfl
theorem r42_40 : Sd gd_mt M42 40 (i_ast 6 42) := sd_astore dX1_feed_40 (by decide) rfl
theorem r42_42 : Sd gd_mt M42 42 (i_psh (.int 0) 43) := sd_iconst dX1_feed_42 (by decide) rfl
theorem r42_43 : Sd gd_mt M42 43 (i_ist 7 45) := sd_istore dX1_feed_43 (by decide) rfl
theorem r42_45 : Sd gd_mt M42 45 (i_msk [true, false, false, false, false, false, true, true] (i_ild 7 47)) := sd_msk _ (sd_iload dX1_feed_45 rfl)
theorem r42_47 : Sd gd_mt M42 47 (i_psh (.int 20) 49) := sd_bipush dX1_feed_47 (by decide) rfl
theorem r42_49 : Sd gd_mt M42 49 (i_icge 93 52) := sd_icge dX1_feed_49 (by decide) rfl
theorem r42_52 : Sd gd_mt M42 52 (i_ald 0 53) := sd_aload_n dX1_feed_52 rfl rfl
theorem r42_53 : Sd gd_mt M42 53 (i_getR 1 0 56) := sd_getR ck1 (by decide) rfl (.inl q356) dX1_feed_53 rfl
theorem r42_56 : Sd gd_mt M42 56 (i_ald 0 57) := sd_aload_n dX1_feed_56 rfl rfl
theorem r42_57 : Sd gd_mt M42 57 (i_dup 58) := sd_dup dX1_feed_57 rfl
theorem r42_58 : Sd gd_mt M42 58 (i_getI 1 16 61) := sd_getI ck1 (by decide) rfl (.inl q372) dX1_feed_58 rfl
theorem r42_61 : Sd gd_mt M42 61 (i_dupx1 62) := sd_dupx1 dX1_feed_61 rfl
theorem r42_62 : Sd gd_mt M42 62 (i_psh (.int 1) 63) := sd_iconst dX1_feed_62 (by decide) rfl
theorem r42_63 : Sd gd_mt M42 63 (i_iadd 64) := sd_iadd dX1_feed_63 rfl
theorem r42_64 : Sd gd_mt M42 64 (i_putI 1 16 67) := sd_putI ck1 (by decide) rfl (.inl q372) (.inl rfl) dX1_feed_64 rfl
theorem r42_67 : Sd gd_mt M42 67 (i_ald 6 69) := sd_aload dX1_feed_67 rfl
theorem r42_69 : Sd gd_mt M42 69 (i_ild 7 71) := sd_iload dX1_feed_69 rfl
theorem r42_71 : Sd gd_mt M42 71 (i_psh (.int 4) 72) := sd_iconst dX1_feed_71 (by decide) rfl
def cl42_0 : List (Nat × gd_I) := [(0, i_ald 0 1), (1, i_getI 1 16 4), (4, i_psh (.int 20) 6), (6, i_iadd 7), (7, i_psh (.int 600) 10), (10, i_icle 15 13), (13, i_psh (.int (-1)) 14), (14, i_iret), (15, i_psh (.int 5) 16), (16, i_newa 31 18), (18, i_dup 19), (19, i_psh (.int 0) 20), (20, i_ild 1 21), (21, i_astI 22), (22, i_dup 23), (23, i_psh (.int 1) 24), (24, i_ild 2 25), (25, i_astI 26), (26, i_dup 27), (27, i_psh (.int 2) 28), (28, i_ild 3 29), (29, i_astI 30), (30, i_dup 31), (31, i_psh (.int 3) 32), (32, i_ild 4 34), (34, i_astI 35), (35, i_dup 36), (36, i_psh (.int 4) 37), (37, i_ild 5 39), (39, i_astI 40), (40, i_ast 6 42), (42, i_psh (.int 0) 43), (43, i_ist 7 45), (45, i_msk [true, false, false, false, false, false, true, true] (i_ild 7 47)), (47, i_psh (.int 20) 49), (49, i_icge 93 52), (52, i_ald 0 53), (53, i_getR 1 0 56), (56, i_ald 0 57), (57, i_dup 58), (58, i_getI 1 16 61), (61, i_dupx1 62), (62, i_psh (.int 1) 63), (63, i_iadd 64), (64, i_putI 1 16 67), (67, i_ald 6 69), (69, i_ild 7 71), (71, i_psh (.int 4) 72)]
theorem cs42_0 : ∀ q ∈ cl42_0, Sd gd_mt M42 q.1 q.2 := gd_ac r42_0 (gd_ac r42_1 (gd_ac r42_4 (gd_ac r42_6 (gd_ac r42_7 (gd_ac r42_10 (gd_ac r42_13 (gd_ac r42_14 (gd_ac r42_15 (gd_ac r42_16 (gd_ac r42_18 (gd_ac r42_19 (gd_ac r42_20 (gd_ac r42_21 (gd_ac r42_22 (gd_ac r42_23 (gd_ac r42_24 (gd_ac r42_25 (gd_ac r42_26 (gd_ac r42_27 (gd_ac r42_28 (gd_ac r42_29 (gd_ac r42_30 (gd_ac r42_31 (gd_ac r42_32 (gd_ac r42_34 (gd_ac r42_35 (gd_ac r42_36 (gd_ac r42_37 (gd_ac r42_39 (gd_ac r42_40 (gd_ac r42_42 (gd_ac r42_43 (gd_ac r42_45 (gd_ac r42_47 (gd_ac r42_49 (gd_ac r42_52 (gd_ac r42_53 (gd_ac r42_56 (gd_ac r42_57 (gd_ac r42_58 (gd_ac r42_61 (gd_ac r42_62 (gd_ac r42_63 (gd_ac r42_64 (gd_ac r42_67 (gd_ac r42_69 (gd_ac r42_71 (gd_an))))))))))))))))))))))))))))))))))))))))))))))))
theorem r42_72 : Sd gd_mt M42 72 (i_idiv 73) := sd_idiv dX1_feed_72 rfl
theorem r42_73 : Sd gd_mt M42 73 (i_aldI 31 74) := sd_iald dX1_feed_73 rfl
theorem r42_74 : Sd gd_mt M42 74 (i_psh (.int 24) 76) := sd_bipush dX1_feed_74 (by decide) rfl
theorem r42_76 : Sd gd_mt M42 76 (i_psh (.int 8) 78) := sd_bipush dX1_feed_76 (by decide) rfl
theorem r42_78 : Sd gd_mt M42 78 (i_ild 7 80) := sd_iload dX1_feed_78 rfl
theorem r42_80 : Sd gd_mt M42 80 (i_psh (.int 4) 81) := sd_iconst dX1_feed_80 (by decide) rfl
theorem r42_81 : Sd gd_mt M42 81 (i_irem 82) := sd_irem dX1_feed_81 rfl
theorem r42_82 : Sd gd_mt M42 82 (i_imul 83) := sd_imul dX1_feed_82 rfl
theorem r42_83 : Sd gd_mt M42 83 (i_isub 84) := sd_isub dX1_feed_83 rfl
theorem r42_84 : Sd gd_mt M42 84 (i_ishr 85) := sd_ishr dX1_feed_84 rfl
theorem r42_85 : Sd gd_mt M42 85 (i_i2b 86) := sd_i2b dX1_feed_85 rfl
theorem r42_86 : Sd gd_mt M42 86 (i_astB 87) := sd_astB dX1_feed_86 rfl
theorem r42_87 : Sd gd_mt M42 87 (i_inc 7 1 90) := sd_iinc dX1_feed_87 (by decide) (by decide) rfl
theorem r42_90 : Sd gd_mt M42 90 (i_goto 45) := sd_goto dX1_feed_90 (by decide)
theorem r42_93 : Sd gd_mt M42 93 (i_ald 0 94) := sd_aload_n dX1_feed_93 rfl rfl
theorem r42_94 : Sd gd_mt M42 94 (i_getI 1 16 97) := sd_getI ck1 (by decide) rfl (.inl q372) dX1_feed_94 rfl
theorem r42_97 : Sd gd_mt M42 97 (i_iret) := sd_iret rfl dX1_feed_97
def cl42_1 : List (Nat × gd_I) := [(72, i_idiv 73), (73, i_aldI 31 74), (74, i_psh (.int 24) 76), (76, i_psh (.int 8) 78), (78, i_ild 7 80), (80, i_psh (.int 4) 81), (81, i_irem 82), (82, i_imul 83), (83, i_isub 84), (84, i_ishr 85), (85, i_i2b 86), (86, i_astB 87), (87, i_inc 7 1 90), (90, i_goto 45), (93, i_ald 0 94), (94, i_getI 1 16 97), (97, i_iret)]
theorem cs42_1 : ∀ q ∈ cl42_1, Sd gd_mt M42 q.1 q.2 := gd_ac r42_72 (gd_ac r42_73 (gd_ac r42_74 (gd_ac r42_76 (gd_ac r42_78 (gd_ac r42_80 (gd_ac r42_81 (gd_ac r42_82 (gd_ac r42_83 (gd_ac r42_84 (gd_ac r42_85 (gd_ac r42_86 (gd_ac r42_87 (gd_ac r42_90 (gd_ac r42_93 (gd_ac r42_94 (gd_ac r42_97 (gd_an)))))))))))))))))
def cd42 (pc : Nat) : gd_I := if pc < 72 then lkI cl42_0 pc else lkI cl42_1 pc
theorem cg42 : ∀ pc, Sd gd_mt M42 pc (cd42 pc) := by
  intro pc
  unfold cd42
  by_cases h0 : pc < 72
  · rw [if_pos h0]; exact sd_lk cs42_0 pc
  rw [if_neg h0]
  exact sd_lk cs42_1 pc
theorem r43_0 : Sd gd_mt M43 0 (i_ald 0 1) := sd_aload_n dX1_fault_0 rfl rfl
theorem r43_1 : Sd gd_mt M43 1 (i_getI 1 17 4) := sd_getI ck1 (by decide) rfl (.inl q373) dX1_fault_1 rfl
theorem r43_4 : Sd gd_mt M43 4 (i_iret) := sd_iret rfl dX1_fault_4
def cl43_0 : List (Nat × gd_I) := [(0, i_ald 0 1), (1, i_getI 1 17 4), (4, i_iret)]
theorem cs43_0 : ∀ q ∈ cl43_0, Sd gd_mt M43 q.1 q.2 := gd_ac r43_0 (gd_ac r43_1 (gd_ac r43_4 (gd_an)))
def cd43 (pc : Nat) : gd_I := lkI cl43_0 pc
theorem cg43 : ∀ pc, Sd gd_mt M43 pc (cd43 pc) := sd_lk cs43_0
theorem r44_0 : Sd gd_mt M44 0 (i_ald 0 1) := sd_aload_n dX1_undo_0 rfl rfl
theorem r44_1 : Sd gd_mt M44 1 (i_getR 1 2 4) := sd_getR ck1 (by decide) rfl (.inl q358) dX1_undo_1 rfl
theorem r44_4 : Sd gd_mt M44 4 (i_getI 3 1 7) := sd_getI ck3 (by decide) rfl (.inr ⟨_, q311⟩) dX1_undo_4 rfl
theorem r44_7 : Sd gd_mt M44 7 (i_ifne 12 10) := sd_ifne dX1_undo_7 (by decide) rfl
theorem r44_10 : Sd gd_mt M44 10 (i_psh (.int (-1)) 11) := sd_iconst dX1_undo_10 (by decide) rfl
theorem r44_11 : Sd gd_mt M44 11 (i_iret) := sd_iret rfl dX1_undo_11
theorem r44_12 : Sd gd_mt M44 12 (i_ald 0 13) := sd_aload_n dX1_undo_12 rfl rfl
theorem r44_13 : Sd gd_mt M44 13 (i_psh (.int 0) 14) := sd_iconst dX1_undo_13 (by decide) rfl
theorem r44_14 : Sd gd_mt M44 14 (i_putI 1 19 17) := sd_putI ck1 (by decide) rfl (.inl q375) (.inl rfl) dX1_undo_14 rfl
theorem r44_17 : Sd gd_mt M44 17 (i_ald 0 18) := sd_aload_n dX1_undo_17 rfl rfl
theorem r44_18 : Sd gd_mt M44 18 (i_getR 1 2 21) := sd_getR ck1 (by decide) rfl (.inl q358) dX1_undo_18 rfl
theorem r44_21 : Sd gd_mt M44 21 (i_dup 22) := sd_dup dX1_undo_21 rfl
theorem r44_22 : Sd gd_mt M44 22 (i_getI 3 1 25) := sd_getI ck3 (by decide) rfl (.inr ⟨_, q311⟩) dX1_undo_22 rfl
theorem r44_25 : Sd gd_mt M44 25 (i_psh (.int 1) 26) := sd_iconst dX1_undo_25 (by decide) rfl
theorem r44_26 : Sd gd_mt M44 26 (i_isub 27) := sd_isub dX1_undo_26 rfl
theorem r44_27 : Sd gd_mt M44 27 (i_dupx1 28) := sd_dupx1 dX1_undo_27 rfl
theorem r44_28 : Sd gd_mt M44 28 (i_putI 3 1 31) := sd_putI ck3 (by decide) rfl (.inr ⟨_, q311⟩) (.inl rfl) dX1_undo_28 rfl
theorem r44_31 : Sd gd_mt M44 31 (i_iret) := sd_iret rfl dX1_undo_31
def cl44_0 : List (Nat × gd_I) := [(0, i_ald 0 1), (1, i_getR 1 2 4), (4, i_getI 3 1 7), (7, i_ifne 12 10), (10, i_psh (.int (-1)) 11), (11, i_iret), (12, i_ald 0 13), (13, i_psh (.int 0) 14), (14, i_putI 1 19 17), (17, i_ald 0 18), (18, i_getR 1 2 21), (21, i_dup 22), (22, i_getI 3 1 25), (25, i_psh (.int 1) 26), (26, i_isub 27), (27, i_dupx1 28), (28, i_putI 3 1 31), (31, i_iret)]
theorem cs44_0 : ∀ q ∈ cl44_0, Sd gd_mt M44 q.1 q.2 := gd_ac r44_0 (gd_ac r44_1 (gd_ac r44_4 (gd_ac r44_7 (gd_ac r44_10 (gd_ac r44_11 (gd_ac r44_12 (gd_ac r44_13 (gd_ac r44_14 (gd_ac r44_17 (gd_ac r44_18 (gd_ac r44_21 (gd_ac r44_22 (gd_ac r44_25 (gd_ac r44_26 (gd_ac r44_27 (gd_ac r44_28 (gd_ac r44_31 (gd_an))))))))))))))))))
def cd44 (pc : Nat) : gd_I := lkI cl44_0 pc
theorem cg44 : ∀ pc, Sd gd_mt M44 pc (cd44 pc) := sd_lk cs44_0
theorem r45_0 : Sd gd_mt M45 0 (i_ald 0 1) := sd_aload_n dX1_mates_0 rfl rfl
theorem r45_1 : Sd gd_mt M45 1 (i_getR 1 5 4) := sd_getR ck1 (by decide) rfl (.inl q361) dX1_mates_1 rfl
theorem r45_4 : Sd gd_mt M45 4 (i_ald 0 5) := sd_aload_n dX1_mates_4 rfl rfl
theorem r45_5 : Sd gd_mt M45 5 (i_getR 1 2 8) := sd_getR ck1 (by decide) rfl (.inl q358) dX1_mates_5 rfl
theorem r45_8 : Sd gd_mt M45 8 (i_cV 145 0 3 11) := sd_cV2 e145 cal145 q345 q346 (rfl : gd_cl 3 = some _) q347 dX1_mates_8 rfl
theorem r45_11 : Sd gd_mt M45 11 (i_msk [true] (i_cV 173 1 7 14)) := sd_msk _ (sd_cV2 e173 cal173 q443 q444 (rfl : gd_cl 7 = some _) q445 dX1_mates_11 rfl)
theorem r45_14 : Sd gd_mt M45 14 (i_msk [true] (i_ald 0 15)) := sd_msk _ (sd_aload_n dX1_mates_14 rfl rfl)
theorem r45_15 : Sd gd_mt M45 15 (i_getR 1 5 18) := sd_getR ck1 (by decide) rfl (.inl q361) dX1_mates_15 rfl
theorem r45_18 : Sd gd_mt M45 18 (i_getI 7 3 21) := sd_getI ck7 (by decide) rfl (.inr ⟨_, q331⟩) dX1_mates_18 rfl
theorem r45_21 : Sd gd_mt M45 21 (i_iret) := sd_iret rfl dX1_mates_21
def cl45_0 : List (Nat × gd_I) := [(0, i_ald 0 1), (1, i_getR 1 5 4), (4, i_ald 0 5), (5, i_getR 1 2 8), (8, i_cV 145 0 3 11), (11, i_msk [true] (i_cV 173 1 7 14)), (14, i_msk [true] (i_ald 0 15)), (15, i_getR 1 5 18), (18, i_getI 7 3 21), (21, i_iret)]
theorem cs45_0 : ∀ q ∈ cl45_0, Sd gd_mt M45 q.1 q.2 := gd_ac r45_0 (gd_ac r45_1 (gd_ac r45_4 (gd_ac r45_5 (gd_ac r45_8 (gd_ac r45_11 (gd_ac r45_14 (gd_ac r45_15 (gd_ac r45_18 (gd_ac r45_21 (gd_an))))))))))
def cd45 (pc : Nat) : gd_I := lkI cl45_0 pc
theorem cg45 : ∀ pc, Sd gd_mt M45 pc (cd45 pc) := sd_lk cs45_0
theorem r46_0 : Sd gd_mt M46 0 (i_ald 0 1) := sd_aload_n dX1_ladder_0 rfl rfl
theorem r46_1 : Sd gd_mt M46 1 (i_cV 47 0 1 4) := sd_cV2 e47 cal47 q473 q475 (rfl : gd_cl 1 = some _) qs1 dX1_ladder_1 rfl
theorem r46_4 : Sd gd_mt M46 4 (i_msk [false] (i_iret)) := sd_msk _ (sd_iret rfl dX1_ladder_4)
def cl46_0 : List (Nat × gd_I) := [(0, i_ald 0 1), (1, i_cV 47 0 1 4), (4, i_msk [false] (i_iret))]
theorem cs46_0 : ∀ q ∈ cl46_0, Sd gd_mt M46 q.1 q.2 := gd_ac r46_0 (gd_ac r46_1 (gd_ac r46_4 (gd_an)))
def cd46 (pc : Nat) : gd_I := lkI cl46_0 pc
theorem cg46 : ∀ pc, Sd gd_mt M46 pc (cd46 pc) := sd_lk cs46_0
theorem r47_0 : Sd gd_mt M47 0 (i_ald 0 1) := sd_aload_n dX1_climbs_0 rfl rfl
theorem r47_1 : Sd gd_mt M47 1 (i_getR 1 2 4) := sd_getR ck1 (by decide) rfl (.inl q358) dX1_climbs_1 rfl
theorem r47_4 : Sd gd_mt M47 4 (i_cV 145 0 3 7) := sd_cV2 e145 cal145 q345 q346 (rfl : gd_cl 3 = some _) q347 dX1_climbs_4 rfl
theorem r47_7 : Sd gd_mt M47 7 (i_msk [true, false, false, false, false, false] (i_getR 4 1 10)) := sd_msk _ (sd_getR ck4 (by decide) rfl (.inr ⟨_, q260⟩) dX1_climbs_7 rfl)
theorem r47_10 : Sd gd_mt M47 10 (i_ast 1 11) := sd_astore_n dX1_climbs_10 rfl (by decide) rfl
theorem r47_11 : Sd gd_mt M47 11 (i_psh (.int 0) 12) := sd_iconst dX1_climbs_11 (by decide) rfl
theorem r47_12 : Sd gd_mt M47 12 (i_ist 2 13) := sd_istore_n dX1_climbs_12 rfl (by decide) rfl
theorem r47_13 : Sd gd_mt M47 13 (i_psh (.int 0) 14) := sd_iconst dX1_climbs_13 (by decide) rfl
theorem r47_14 : Sd gd_mt M47 14 (i_ist 3 15) := sd_istore_n dX1_climbs_14 rfl (by decide) rfl
theorem r47_15 : Sd gd_mt M47 15 (i_ald 0 16) := sd_aload_n dX1_climbs_15 rfl rfl
theorem r47_16 : Sd gd_mt M47 16 (i_getR 1 15 19) := sd_getR ck1 (by decide) rfl (.inl q371) dX1_climbs_16 rfl
theorem r47_19 : Sd gd_mt M47 19 (i_getI 6 7 22) := sd_getI ck6 (by decide) rfl (.inr ⟨_, q238⟩) dX1_climbs_19 rfl
theorem r47_22 : Sd gd_mt M47 22 (i_psh (.int 1) 23) := sd_iconst dX1_climbs_22 (by decide) rfl
theorem r47_23 : Sd gd_mt M47 23 (i_isub 24) := sd_isub dX1_climbs_23 rfl
theorem r47_24 : Sd gd_mt M47 24 (i_ist 4 26) := sd_istore dX1_climbs_24 (by decide) rfl
theorem r47_26 : Sd gd_mt M47 26 (i_msk [true, true, true, true, true, false] (i_ild 4 28)) := sd_msk _ (sd_iload dX1_climbs_26 rfl)
theorem r47_28 : Sd gd_mt M47 28 (i_iflt 118 31) := sd_iflt dX1_climbs_28 (by decide) rfl
theorem r47_31 : Sd gd_mt M47 31 (i_ald 0 32) := sd_aload_n dX1_climbs_31 rfl rfl
theorem r47_32 : Sd gd_mt M47 32 (i_getR 1 12 35) := sd_getR ck1 (by decide) rfl (.inl q368) dX1_climbs_32 rfl
theorem r47_35 : Sd gd_mt M47 35 (i_ild 4 37) := sd_iload dX1_climbs_35 rfl
theorem r47_37 : Sd gd_mt M47 37 (i_psh (.int 1) 38) := sd_iconst dX1_climbs_37 (by decide) rfl
theorem r47_38 : Sd gd_mt M47 38 (i_astI 39) := sd_astI dX1_climbs_38 rfl
theorem r47_39 : Sd gd_mt M47 39 (i_ild 4 41) := sd_iload dX1_climbs_39 rfl
theorem r47_41 : Sd gd_mt M47 41 (i_psh (.int 1) 42) := sd_iconst dX1_climbs_41 (by decide) rfl
theorem r47_42 : Sd gd_mt M47 42 (i_iadd 43) := sd_iadd dX1_climbs_42 rfl
theorem r47_43 : Sd gd_mt M47 43 (i_ist 5 45) := sd_istore dX1_climbs_43 (by decide) rfl
theorem r47_45 : Sd gd_mt M47 45 (i_msk [true, true, true, true, true, true] (i_ild 5 47)) := sd_msk _ (sd_iload dX1_climbs_45 rfl)
theorem r47_47 : Sd gd_mt M47 47 (i_ald 0 48) := sd_aload_n dX1_climbs_47 rfl rfl
theorem r47_48 : Sd gd_mt M47 48 (i_getR 1 15 51) := sd_getR ck1 (by decide) rfl (.inl q371) dX1_climbs_48 rfl
theorem r47_51 : Sd gd_mt M47 51 (i_getI 6 7 54) := sd_getI ck6 (by decide) rfl (.inr ⟨_, q238⟩) dX1_climbs_51 rfl
theorem r47_54 : Sd gd_mt M47 54 (i_icge 100 57) := sd_icge dX1_climbs_54 (by decide) rfl
theorem r47_57 : Sd gd_mt M47 57 (i_ald 1 58) := sd_aload_n dX1_climbs_57 rfl rfl
theorem r47_58 : Sd gd_mt M47 58 (i_ild 5 60) := sd_iload dX1_climbs_58 rfl
theorem r47_60 : Sd gd_mt M47 60 (i_aldI 31 61) := sd_iald dX1_climbs_60 rfl
theorem r47_61 : Sd gd_mt M47 61 (i_ald 1 62) := sd_aload_n dX1_climbs_61 rfl rfl
theorem r47_62 : Sd gd_mt M47 62 (i_ild 4 64) := sd_iload dX1_climbs_62 rfl
theorem r47_64 : Sd gd_mt M47 64 (i_aldI 31 65) := sd_iald dX1_climbs_64 rfl
theorem r47_65 : Sd gd_mt M47 65 (i_icle 94 68) := sd_icle dX1_climbs_65 (by decide) rfl
theorem r47_68 : Sd gd_mt M47 68 (i_ald 0 69) := sd_aload_n dX1_climbs_68 rfl rfl
theorem r47_69 : Sd gd_mt M47 69 (i_getR 1 12 72) := sd_getR ck1 (by decide) rfl (.inl q368) dX1_climbs_69 rfl
theorem r47_72 : Sd gd_mt M47 72 (i_ild 4 74) := sd_iload dX1_climbs_72 rfl
theorem r47_74 : Sd gd_mt M47 74 (i_ald 0 75) := sd_aload_n dX1_climbs_74 rfl rfl
theorem r47_75 : Sd gd_mt M47 75 (i_getR 1 12 78) := sd_getR ck1 (by decide) rfl (.inl q368) dX1_climbs_75 rfl
theorem r47_78 : Sd gd_mt M47 78 (i_ild 4 80) := sd_iload dX1_climbs_78 rfl
theorem r47_80 : Sd gd_mt M47 80 (i_aldI 31 81) := sd_iald dX1_climbs_80 rfl
theorem r47_81 : Sd gd_mt M47 81 (i_psh (.int 1) 82) := sd_iconst dX1_climbs_81 (by decide) rfl
theorem r47_82 : Sd gd_mt M47 82 (i_ald 0 83) := sd_aload_n dX1_climbs_82 rfl rfl
theorem r47_83 : Sd gd_mt M47 83 (i_getR 1 12 86) := sd_getR ck1 (by decide) rfl (.inl q368) dX1_climbs_83 rfl
def cl47_0 : List (Nat × gd_I) := [(0, i_ald 0 1), (1, i_getR 1 2 4), (4, i_cV 145 0 3 7), (7, i_msk [true, false, false, false, false, false] (i_getR 4 1 10)), (10, i_ast 1 11), (11, i_psh (.int 0) 12), (12, i_ist 2 13), (13, i_psh (.int 0) 14), (14, i_ist 3 15), (15, i_ald 0 16), (16, i_getR 1 15 19), (19, i_getI 6 7 22), (22, i_psh (.int 1) 23), (23, i_isub 24), (24, i_ist 4 26), (26, i_msk [true, true, true, true, true, false] (i_ild 4 28)), (28, i_iflt 118 31), (31, i_ald 0 32), (32, i_getR 1 12 35), (35, i_ild 4 37), (37, i_psh (.int 1) 38), (38, i_astI 39), (39, i_ild 4 41), (41, i_psh (.int 1) 42), (42, i_iadd 43), (43, i_ist 5 45), (45, i_msk [true, true, true, true, true, true] (i_ild 5 47)), (47, i_ald 0 48), (48, i_getR 1 15 51), (51, i_getI 6 7 54), (54, i_icge 100 57), (57, i_ald 1 58), (58, i_ild 5 60), (60, i_aldI 31 61), (61, i_ald 1 62), (62, i_ild 4 64), (64, i_aldI 31 65), (65, i_icle 94 68), (68, i_ald 0 69), (69, i_getR 1 12 72), (72, i_ild 4 74), (74, i_ald 0 75), (75, i_getR 1 12 78), (78, i_ild 4 80), (80, i_aldI 31 81), (81, i_psh (.int 1) 82), (82, i_ald 0 83), (83, i_getR 1 12 86)]
theorem cs47_0 : ∀ q ∈ cl47_0, Sd gd_mt M47 q.1 q.2 := gd_ac r47_0 (gd_ac r47_1 (gd_ac r47_4 (gd_ac r47_7 (gd_ac r47_10 (gd_ac r47_11 (gd_ac r47_12 (gd_ac r47_13 (gd_ac r47_14 (gd_ac r47_15 (gd_ac r47_16 (gd_ac r47_19 (gd_ac r47_22 (gd_ac r47_23 (gd_ac r47_24 (gd_ac r47_26 (gd_ac r47_28 (gd_ac r47_31 (gd_ac r47_32 (gd_ac r47_35 (gd_ac r47_37 (gd_ac r47_38 (gd_ac r47_39 (gd_ac r47_41 (gd_ac r47_42 (gd_ac r47_43 (gd_ac r47_45 (gd_ac r47_47 (gd_ac r47_48 (gd_ac r47_51 (gd_ac r47_54 (gd_ac r47_57 (gd_ac r47_58 (gd_ac r47_60 (gd_ac r47_61 (gd_ac r47_62 (gd_ac r47_64 (gd_ac r47_65 (gd_ac r47_68 (gd_ac r47_69 (gd_ac r47_72 (gd_ac r47_74 (gd_ac r47_75 (gd_ac r47_78 (gd_ac r47_80 (gd_ac r47_81 (gd_ac r47_82 (gd_ac r47_83 (gd_an))))))))))))))))))))))))))))))))))))))))))))))))
theorem r47_86 : Sd gd_mt M47 86 (i_ild 5 88) := sd_iload dX1_climbs_86 rfl
theorem r47_88 : Sd gd_mt M47 88 (i_aldI 31 89) := sd_iald dX1_climbs_88 rfl
theorem r47_89 : Sd gd_mt M47 89 (i_iadd 90) := sd_iadd dX1_climbs_89 rfl
theorem r47_90 : Sd gd_mt M47 90 (i_mmax 93) := sd_mmax q477 q478 q106 q479 dX1_climbs_90 rfl
theorem r47_93 : Sd gd_mt M47 93 (i_msk [true, true, true, true, true, true] (i_astI 94)) := sd_msk _ (sd_astI dX1_climbs_93 rfl)
theorem r47_94 : Sd gd_mt M47 94 (i_msk [true, true, true, true, true, true] (i_inc 5 1 97)) := sd_msk _ (sd_iinc dX1_climbs_94 (by decide) (by decide) rfl)
theorem r47_97 : Sd gd_mt M47 97 (i_goto 45) := sd_goto dX1_climbs_97 (by decide)
theorem r47_100 : Sd gd_mt M47 100 (i_ild 2 101) := sd_iload_n dX1_climbs_100 rfl rfl
theorem r47_101 : Sd gd_mt M47 101 (i_ald 0 102) := sd_aload_n dX1_climbs_101 rfl rfl
theorem r47_102 : Sd gd_mt M47 102 (i_getR 1 12 105) := sd_getR ck1 (by decide) rfl (.inl q368) dX1_climbs_102 rfl
theorem r47_105 : Sd gd_mt M47 105 (i_ild 4 107) := sd_iload dX1_climbs_105 rfl
theorem r47_107 : Sd gd_mt M47 107 (i_aldI 31 108) := sd_iald dX1_climbs_107 rfl
theorem r47_108 : Sd gd_mt M47 108 (i_mmax 111) := sd_mmax q477 q478 q106 q479 dX1_climbs_108 rfl
theorem r47_111 : Sd gd_mt M47 111 (i_msk [true, true, false, true, true, false] (i_ist 2 112)) := sd_msk _ (sd_istore_n dX1_climbs_111 rfl (by decide) rfl)
theorem r47_112 : Sd gd_mt M47 112 (i_inc 4 (-1) 115) := sd_iinc dX1_climbs_112 (by decide) (by decide) rfl
theorem r47_115 : Sd gd_mt M47 115 (i_goto 26) := sd_goto dX1_climbs_115 (by decide)
theorem r47_118 : Sd gd_mt M47 118 (i_psh (.int 0) 119) := sd_iconst dX1_climbs_118 (by decide) rfl
theorem r47_119 : Sd gd_mt M47 119 (i_ist 4 121) := sd_istore dX1_climbs_119 (by decide) rfl
theorem r47_121 : Sd gd_mt M47 121 (i_msk [true, true, true, true, true, false] (i_ild 4 123)) := sd_msk _ (sd_iload dX1_climbs_121 rfl)
theorem r47_123 : Sd gd_mt M47 123 (i_ald 0 124) := sd_aload_n dX1_climbs_123 rfl rfl
theorem r47_124 : Sd gd_mt M47 124 (i_getR 1 15 127) := sd_getR ck1 (by decide) rfl (.inl q371) dX1_climbs_124 rfl
theorem r47_127 : Sd gd_mt M47 127 (i_getI 6 7 130) := sd_getI ck6 (by decide) rfl (.inr ⟨_, q238⟩) dX1_climbs_127 rfl
theorem r47_130 : Sd gd_mt M47 130 (i_icge 192 133) := sd_icge dX1_climbs_130 (by decide) rfl
theorem r47_133 : Sd gd_mt M47 133 (i_ild 3 134) := sd_iload_n dX1_climbs_133 rfl rfl
theorem r47_134 : Sd gd_mt M47 134 (i_ild 2 135) := sd_iload_n dX1_climbs_134 rfl rfl
theorem r47_135 : Sd gd_mt M47 135 (i_icge 192 138) := sd_icge dX1_climbs_135 (by decide) rfl
theorem r47_138 : Sd gd_mt M47 138 (i_ald 0 139) := sd_aload_n dX1_climbs_138 rfl rfl
theorem r47_139 : Sd gd_mt M47 139 (i_getR 1 12 142) := sd_getR ck1 (by decide) rfl (.inl q368) dX1_climbs_139 rfl
theorem r47_142 : Sd gd_mt M47 142 (i_ild 4 144) := sd_iload dX1_climbs_142 rfl
theorem r47_144 : Sd gd_mt M47 144 (i_aldI 31 145) := sd_iald dX1_climbs_144 rfl
theorem r47_145 : Sd gd_mt M47 145 (i_ild 2 146) := sd_iload_n dX1_climbs_145 rfl rfl
theorem r47_146 : Sd gd_mt M47 146 (i_ild 3 147) := sd_iload_n dX1_climbs_146 rfl rfl
theorem r47_147 : Sd gd_mt M47 147 (i_isub 148) := sd_isub dX1_climbs_147 rfl
theorem r47_148 : Sd gd_mt M47 148 (i_icne 186 151) := sd_icne dX1_climbs_148 (by decide) rfl
theorem r47_151 : Sd gd_mt M47 151 (i_ild 3 152) := sd_iload_n dX1_climbs_151 rfl rfl
theorem r47_152 : Sd gd_mt M47 152 (i_ifle 175 155) := sd_ifle dX1_climbs_152 (by decide) rfl
theorem r47_155 : Sd gd_mt M47 155 (i_ald 1 156) := sd_aload_n dX1_climbs_155 rfl rfl
theorem r47_156 : Sd gd_mt M47 156 (i_ild 4 158) := sd_iload dX1_climbs_156 rfl
theorem r47_158 : Sd gd_mt M47 158 (i_aldI 31 159) := sd_iald dX1_climbs_158 rfl
theorem r47_159 : Sd gd_mt M47 159 (i_ald 1 160) := sd_aload_n dX1_climbs_159 rfl rfl
theorem r47_160 : Sd gd_mt M47 160 (i_ald 0 161) := sd_aload_n dX1_climbs_160 rfl rfl
theorem r47_161 : Sd gd_mt M47 161 (i_getR 1 13 164) := sd_getR ck1 (by decide) rfl (.inl q369) dX1_climbs_161 rfl
theorem r47_164 : Sd gd_mt M47 164 (i_ild 3 165) := sd_iload_n dX1_climbs_164 rfl rfl
theorem r47_165 : Sd gd_mt M47 165 (i_psh (.int 1) 166) := sd_iconst dX1_climbs_165 (by decide) rfl
theorem r47_166 : Sd gd_mt M47 166 (i_isub 167) := sd_isub dX1_climbs_166 rfl
theorem r47_167 : Sd gd_mt M47 167 (i_aldI 31 168) := sd_iald dX1_climbs_167 rfl
theorem r47_168 : Sd gd_mt M47 168 (i_aldI 31 169) := sd_iald dX1_climbs_168 rfl
theorem r47_169 : Sd gd_mt M47 169 (i_icgt 175 172) := sd_icgt dX1_climbs_169 (by decide) rfl
def cl47_1 : List (Nat × gd_I) := [(86, i_ild 5 88), (88, i_aldI 31 89), (89, i_iadd 90), (90, i_mmax 93), (93, i_msk [true, true, true, true, true, true] (i_astI 94)), (94, i_msk [true, true, true, true, true, true] (i_inc 5 1 97)), (97, i_goto 45), (100, i_ild 2 101), (101, i_ald 0 102), (102, i_getR 1 12 105), (105, i_ild 4 107), (107, i_aldI 31 108), (108, i_mmax 111), (111, i_msk [true, true, false, true, true, false] (i_ist 2 112)), (112, i_inc 4 (-1) 115), (115, i_goto 26), (118, i_psh (.int 0) 119), (119, i_ist 4 121), (121, i_msk [true, true, true, true, true, false] (i_ild 4 123)), (123, i_ald 0 124), (124, i_getR 1 15 127), (127, i_getI 6 7 130), (130, i_icge 192 133), (133, i_ild 3 134), (134, i_ild 2 135), (135, i_icge 192 138), (138, i_ald 0 139), (139, i_getR 1 12 142), (142, i_ild 4 144), (144, i_aldI 31 145), (145, i_ild 2 146), (146, i_ild 3 147), (147, i_isub 148), (148, i_icne 186 151), (151, i_ild 3 152), (152, i_ifle 175 155), (155, i_ald 1 156), (156, i_ild 4 158), (158, i_aldI 31 159), (159, i_ald 1 160), (160, i_ald 0 161), (161, i_getR 1 13 164), (164, i_ild 3 165), (165, i_psh (.int 1) 166), (166, i_isub 167), (167, i_aldI 31 168), (168, i_aldI 31 169), (169, i_icgt 175 172)]
theorem cs47_1 : ∀ q ∈ cl47_1, Sd gd_mt M47 q.1 q.2 := gd_ac r47_86 (gd_ac r47_88 (gd_ac r47_89 (gd_ac r47_90 (gd_ac r47_93 (gd_ac r47_94 (gd_ac r47_97 (gd_ac r47_100 (gd_ac r47_101 (gd_ac r47_102 (gd_ac r47_105 (gd_ac r47_107 (gd_ac r47_108 (gd_ac r47_111 (gd_ac r47_112 (gd_ac r47_115 (gd_ac r47_118 (gd_ac r47_119 (gd_ac r47_121 (gd_ac r47_123 (gd_ac r47_124 (gd_ac r47_127 (gd_ac r47_130 (gd_ac r47_133 (gd_ac r47_134 (gd_ac r47_135 (gd_ac r47_138 (gd_ac r47_139 (gd_ac r47_142 (gd_ac r47_144 (gd_ac r47_145 (gd_ac r47_146 (gd_ac r47_147 (gd_ac r47_148 (gd_ac r47_151 (gd_ac r47_152 (gd_ac r47_155 (gd_ac r47_156 (gd_ac r47_158 (gd_ac r47_159 (gd_ac r47_160 (gd_ac r47_161 (gd_ac r47_164 (gd_ac r47_165 (gd_ac r47_166 (gd_ac r47_167 (gd_ac r47_168 (gd_ac r47_169 (gd_an))))))))))))))))))))))))))))))))))))))))))))))))
theorem r47_172 : Sd gd_mt M47 172 (i_goto 186) := sd_goto dX1_climbs_172 (by decide)
theorem r47_175 : Sd gd_mt M47 175 (i_msk [true, true, true, true, true, false] (i_ald 0 176)) := sd_msk _ (sd_aload_n dX1_climbs_175 rfl rfl)
theorem r47_176 : Sd gd_mt M47 176 (i_getR 1 13 179) := sd_getR ck1 (by decide) rfl (.inl q369) dX1_climbs_176 rfl
theorem r47_179 : Sd gd_mt M47 179 (i_ild 3 180) := sd_iload_n dX1_climbs_179 rfl rfl
theorem r47_180 : Sd gd_mt M47 180 (i_inc 3 1 183) := sd_iinc dX1_climbs_180 (by decide) (by decide) rfl
theorem r47_183 : Sd gd_mt M47 183 (i_ild 4 185) := sd_iload dX1_climbs_183 rfl
theorem r47_185 : Sd gd_mt M47 185 (i_astI 186) := sd_astI dX1_climbs_185 rfl
theorem r47_186 : Sd gd_mt M47 186 (i_msk [true, true, true, true, true, false] (i_inc 4 1 189)) := sd_msk _ (sd_iinc dX1_climbs_186 (by decide) (by decide) rfl)
theorem r47_189 : Sd gd_mt M47 189 (i_goto 121) := sd_goto dX1_climbs_189 (by decide)
theorem r47_192 : Sd gd_mt M47 192 (i_msk [false, false, true, false, false, false] (i_ild 2 193)) := sd_msk _ (sd_iload_n dX1_climbs_192 rfl rfl)
theorem r47_193 : Sd gd_mt M47 193 (i_iret) := sd_iret rfl dX1_climbs_193
def cl47_2 : List (Nat × gd_I) := [(172, i_goto 186), (175, i_msk [true, true, true, true, true, false] (i_ald 0 176)), (176, i_getR 1 13 179), (179, i_ild 3 180), (180, i_inc 3 1 183), (183, i_ild 4 185), (185, i_astI 186), (186, i_msk [true, true, true, true, true, false] (i_inc 4 1 189)), (189, i_goto 121), (192, i_msk [false, false, true, false, false, false] (i_ild 2 193)), (193, i_iret)]
theorem cs47_2 : ∀ q ∈ cl47_2, Sd gd_mt M47 q.1 q.2 := gd_ac r47_172 (gd_ac r47_175 (gd_ac r47_176 (gd_ac r47_179 (gd_ac r47_180 (gd_ac r47_183 (gd_ac r47_185 (gd_ac r47_186 (gd_ac r47_189 (gd_ac r47_192 (gd_ac r47_193 (gd_an)))))))))))
def cd47 (pc : Nat) : gd_I := if pc < 86 then lkI cl47_0 pc else if pc < 172 then lkI cl47_1 pc else lkI cl47_2 pc
theorem cg47 : ∀ pc, Sd gd_mt M47 pc (cd47 pc) := by
  intro pc
  unfold cd47
  by_cases h0 : pc < 86
  · rw [if_pos h0]; exact sd_lk cs47_0 pc
  rw [if_neg h0]
  by_cases h1 : pc < 172
  · rw [if_pos h1]; exact sd_lk cs47_1 pc
  rw [if_neg h1]
  exact sd_lk cs47_2 pc
theorem r48_0 : Sd gd_mt M48 0 (i_ald 0 1) := sd_aload_n dX1_image_0 rfl rfl
theorem r48_1 : Sd gd_mt M48 1 (i_getI 1 20 4) := sd_getI ck1 (by decide) rfl (.inl q376) dX1_image_1 rfl
theorem r48_4 : Sd gd_mt M48 4 (i_psh (.int 3) 5) := sd_iconst dX1_image_4 (by decide) rfl
theorem r48_5 : Sd gd_mt M48 5 (i_icne 10 8) := sd_icne dX1_image_5 (by decide) rfl
theorem r48_8 : Sd gd_mt M48 8 (i_psh (.int (-1)) 9) := sd_iconst dX1_image_8 (by decide) rfl
theorem r48_9 : Sd gd_mt M48 9 (i_iret) := sd_iret rfl dX1_image_9
theorem r48_10 : Sd gd_mt M48 10 (i_ald 0 11) := sd_aload_n dX1_image_10 rfl rfl
theorem r48_11 : Sd gd_mt M48 11 (i_getR 1 3 14) := sd_getR ck1 (by decide) rfl (.inl q359) dX1_image_11 rfl
theorem r48_14 : Sd gd_mt M48 14 (i_ald 0 15) := sd_aload_n dX1_image_14 rfl rfl
theorem r48_15 : Sd gd_mt M48 15 (i_getI 1 20 18) := sd_getI ck1 (by decide) rfl (.inl q376) dX1_image_15 rfl
theorem r48_18 : Sd gd_mt M48 18 (i_aldR 36 19) := sd_aald (rfl : gd_ety 36 = some (.object _)) dX1_image_18 rfl
theorem r48_19 : Sd gd_mt M48 19 (i_ald 0 20) := sd_aload_n dX1_image_19 rfl rfl
theorem r48_20 : Sd gd_mt M48 20 (i_getR 1 2 23) := sd_getR ck1 (by decide) rfl (.inl q358) dX1_image_20 rfl
theorem r48_23 : Sd gd_mt M48 23 (i_cV 146 1 3 26) := sd_cV2 e146 cal146 q484 q485 (rfl : gd_cl 3 = some _) q486 dX1_image_23 rfl
theorem r48_26 : Sd gd_mt M48 26 (i_msk [true] (i_ald 0 27)) := sd_msk _ (sd_aload_n dX1_image_26 rfl rfl)
theorem r48_27 : Sd gd_mt M48 27 (i_dup 28) := sd_dup dX1_image_27 rfl
theorem r48_28 : Sd gd_mt M48 28 (i_getI 1 20 31) := sd_getI ck1 (by decide) rfl (.inl q376) dX1_image_28 rfl
theorem r48_31 : Sd gd_mt M48 31 (i_psh (.int 1) 32) := sd_iconst dX1_image_31 (by decide) rfl
theorem r48_32 : Sd gd_mt M48 32 (i_iadd 33) := sd_iadd dX1_image_32 rfl
theorem r48_33 : Sd gd_mt M48 33 (i_dupx1 34) := sd_dupx1 dX1_image_33 rfl
theorem r48_34 : Sd gd_mt M48 34 (i_putI 1 20 37) := sd_putI ck1 (by decide) rfl (.inl q376) (.inl rfl) dX1_image_34 rfl
theorem r48_37 : Sd gd_mt M48 37 (i_iret) := sd_iret rfl dX1_image_37
def cl48_0 : List (Nat × gd_I) := [(0, i_ald 0 1), (1, i_getI 1 20 4), (4, i_psh (.int 3) 5), (5, i_icne 10 8), (8, i_psh (.int (-1)) 9), (9, i_iret), (10, i_ald 0 11), (11, i_getR 1 3 14), (14, i_ald 0 15), (15, i_getI 1 20 18), (18, i_aldR 36 19), (19, i_ald 0 20), (20, i_getR 1 2 23), (23, i_cV 146 1 3 26), (26, i_msk [true] (i_ald 0 27)), (27, i_dup 28), (28, i_getI 1 20 31), (31, i_psh (.int 1) 32), (32, i_iadd 33), (33, i_dupx1 34), (34, i_putI 1 20 37), (37, i_iret)]
theorem cs48_0 : ∀ q ∈ cl48_0, Sd gd_mt M48 q.1 q.2 := gd_ac r48_0 (gd_ac r48_1 (gd_ac r48_4 (gd_ac r48_5 (gd_ac r48_8 (gd_ac r48_9 (gd_ac r48_10 (gd_ac r48_11 (gd_ac r48_14 (gd_ac r48_15 (gd_ac r48_18 (gd_ac r48_19 (gd_ac r48_20 (gd_ac r48_23 (gd_ac r48_26 (gd_ac r48_27 (gd_ac r48_28 (gd_ac r48_31 (gd_ac r48_32 (gd_ac r48_33 (gd_ac r48_34 (gd_ac r48_37 (gd_an))))))))))))))))))))))
def cd48 (pc : Nat) : gd_I := lkI cl48_0 pc
theorem cg48 : ∀ pc, Sd gd_mt M48 pc (cd48 pc) := sd_lk cs48_0
theorem r49_0 : Sd gd_mt M49 0 (i_ald 0 1) := sd_aload_n dX1_restore_0 rfl rfl
theorem r49_1 : Sd gd_mt M49 1 (i_getI 1 20 4) := sd_getI ck1 (by decide) rfl (.inl q376) dX1_restore_1 rfl
theorem r49_4 : Sd gd_mt M49 4 (i_ifne 9 7) := sd_ifne dX1_restore_4 (by decide) rfl
theorem r49_7 : Sd gd_mt M49 7 (i_psh (.int (-1)) 8) := sd_iconst dX1_restore_7 (by decide) rfl
theorem r49_8 : Sd gd_mt M49 8 (i_iret) := sd_iret rfl dX1_restore_8
theorem r49_9 : Sd gd_mt M49 9 (i_ald 0 10) := sd_aload_n dX1_restore_9 rfl rfl
theorem r49_10 : Sd gd_mt M49 10 (i_getR 1 2 13) := sd_getR ck1 (by decide) rfl (.inl q358) dX1_restore_10 rfl
theorem r49_13 : Sd gd_mt M49 13 (i_ald 0 14) := sd_aload_n dX1_restore_13 rfl rfl
theorem r49_14 : Sd gd_mt M49 14 (i_getR 1 3 17) := sd_getR ck1 (by decide) rfl (.inl q359) dX1_restore_14 rfl
theorem r49_17 : Sd gd_mt M49 17 (i_ald 0 18) := sd_aload_n dX1_restore_17 rfl rfl
theorem r49_18 : Sd gd_mt M49 18 (i_dup 19) := sd_dup dX1_restore_18 rfl
theorem r49_19 : Sd gd_mt M49 19 (i_getI 1 20 22) := sd_getI ck1 (by decide) rfl (.inl q376) dX1_restore_19 rfl
theorem r49_22 : Sd gd_mt M49 22 (i_psh (.int 1) 23) := sd_iconst dX1_restore_22 (by decide) rfl
theorem r49_23 : Sd gd_mt M49 23 (i_isub 24) := sd_isub dX1_restore_23 rfl
theorem r49_24 : Sd gd_mt M49 24 (i_dupx1 25) := sd_dupx1 dX1_restore_24 rfl
theorem r49_25 : Sd gd_mt M49 25 (i_putI 1 20 28) := sd_putI ck1 (by decide) rfl (.inl q376) (.inl rfl) dX1_restore_25 rfl
theorem r49_28 : Sd gd_mt M49 28 (i_aldR 36 29) := sd_aald (rfl : gd_ety 36 = some (.object _)) dX1_restore_28 rfl
theorem r49_29 : Sd gd_mt M49 29 (i_cV 146 1 3 32) := sd_cV2 e146 cal146 q484 q485 (rfl : gd_cl 3 = some _) q486 dX1_restore_29 rfl
theorem r49_32 : Sd gd_mt M49 32 (i_msk [true] (i_ald 0 33)) := sd_msk _ (sd_aload_n dX1_restore_32 rfl rfl)
theorem r49_33 : Sd gd_mt M49 33 (i_psh (.int 0) 34) := sd_iconst dX1_restore_33 (by decide) rfl
theorem r49_34 : Sd gd_mt M49 34 (i_putI 1 19 37) := sd_putI ck1 (by decide) rfl (.inl q375) (.inl rfl) dX1_restore_34 rfl
theorem r49_37 : Sd gd_mt M49 37 (i_ald 0 38) := sd_aload_n dX1_restore_37 rfl rfl
theorem r49_38 : Sd gd_mt M49 38 (i_getI 1 20 41) := sd_getI ck1 (by decide) rfl (.inl q376) dX1_restore_38 rfl
theorem r49_41 : Sd gd_mt M49 41 (i_iret) := sd_iret rfl dX1_restore_41
def cl49_0 : List (Nat × gd_I) := [(0, i_ald 0 1), (1, i_getI 1 20 4), (4, i_ifne 9 7), (7, i_psh (.int (-1)) 8), (8, i_iret), (9, i_ald 0 10), (10, i_getR 1 2 13), (13, i_ald 0 14), (14, i_getR 1 3 17), (17, i_ald 0 18), (18, i_dup 19), (19, i_getI 1 20 22), (22, i_psh (.int 1) 23), (23, i_isub 24), (24, i_dupx1 25), (25, i_putI 1 20 28), (28, i_aldR 36 29), (29, i_cV 146 1 3 32), (32, i_msk [true] (i_ald 0 33)), (33, i_psh (.int 0) 34), (34, i_putI 1 19 37), (37, i_ald 0 38), (38, i_getI 1 20 41), (41, i_iret)]
theorem cs49_0 : ∀ q ∈ cl49_0, Sd gd_mt M49 q.1 q.2 := gd_ac r49_0 (gd_ac r49_1 (gd_ac r49_4 (gd_ac r49_7 (gd_ac r49_8 (gd_ac r49_9 (gd_ac r49_10 (gd_ac r49_13 (gd_ac r49_14 (gd_ac r49_17 (gd_ac r49_18 (gd_ac r49_19 (gd_ac r49_22 (gd_ac r49_23 (gd_ac r49_24 (gd_ac r49_25 (gd_ac r49_28 (gd_ac r49_29 (gd_ac r49_32 (gd_ac r49_33 (gd_ac r49_34 (gd_ac r49_37 (gd_ac r49_38 (gd_ac r49_41 (gd_an))))))))))))))))))))))))
def cd49 (pc : Nat) : gd_I := lkI cl49_0 pc
theorem cg49 : ∀ pc, Sd gd_mt M49 pc (cd49 pc) := sd_lk cs49_0
theorem r50_0 : Sd gd_mt M50 0 (i_ild 1 1) := sd_iload_n dX1_status_0 rfl rfl
theorem r50_1 : Sd gd_mt M50 1 (i_iflt 9 4) := sd_iflt dX1_status_1 (by decide) rfl
theorem r50_4 : Sd gd_mt M50 4 (i_ild 1 5) := sd_iload_n dX1_status_4 rfl rfl
theorem r50_5 : Sd gd_mt M50 5 (i_psh (.int 1) 6) := sd_iconst dX1_status_5 (by decide) rfl
theorem r50_6 : Sd gd_mt M50 6 (i_icle 13 9) := sd_icle dX1_status_6 (by decide) rfl
theorem r50_9 : Sd gd_mt M50 9 (i_msk [false, false] (i_psh (.int (-1)) 10)) := sd_msk _ (sd_iconst dX1_status_9 (by decide) rfl)
theorem r50_10 : Sd gd_mt M50 10 (i_goto 19) := sd_goto dX1_status_10 (by decide)
theorem r50_13 : Sd gd_mt M50 13 (i_ald 0 14) := sd_aload_n dX1_status_13 rfl rfl
theorem r50_14 : Sd gd_mt M50 14 (i_getR 1 7 17) := sd_getR ck1 (by decide) rfl (.inl q363) dX1_status_14 rfl
theorem r50_17 : Sd gd_mt M50 17 (i_ild 1 18) := sd_iload_n dX1_status_17 rfl rfl
theorem r50_18 : Sd gd_mt M50 18 (i_aldI 31 19) := sd_iald dX1_status_18 rfl
theorem r50_19 : Sd gd_mt M50 19 (i_msk [false, false] (i_iret)) := sd_msk _ (sd_iret rfl dX1_status_19)
def cl50_0 : List (Nat × gd_I) := [(0, i_ild 1 1), (1, i_iflt 9 4), (4, i_ild 1 5), (5, i_psh (.int 1) 6), (6, i_icle 13 9), (9, i_msk [false, false] (i_psh (.int (-1)) 10)), (10, i_goto 19), (13, i_ald 0 14), (14, i_getR 1 7 17), (17, i_ild 1 18), (18, i_aldI 31 19), (19, i_msk [false, false] (i_iret))]
theorem cs50_0 : ∀ q ∈ cl50_0, Sd gd_mt M50 q.1 q.2 := gd_ac r50_0 (gd_ac r50_1 (gd_ac r50_4 (gd_ac r50_5 (gd_ac r50_6 (gd_ac r50_9 (gd_ac r50_10 (gd_ac r50_13 (gd_ac r50_14 (gd_ac r50_17 (gd_ac r50_18 (gd_ac r50_19 (gd_an))))))))))))
def cd50 (pc : Nat) : gd_I := lkI cl50_0 pc
theorem cg50 : ∀ pc, Sd gd_mt M50 pc (cd50 pc) := sd_lk cs50_0
theorem r51_0 : Sd gd_mt M51 0 (i_ild 1 1) := sd_iload_n dX1_count_0 rfl rfl
theorem r51_1 : Sd gd_mt M51 1 (i_ifne 11 4) := sd_ifne dX1_count_1 (by decide) rfl
theorem r51_4 : Sd gd_mt M51 4 (i_ald 0 5) := sd_aload_n dX1_count_4 rfl rfl
theorem r51_5 : Sd gd_mt M51 5 (i_getI 1 20 8) := sd_getI ck1 (by decide) rfl (.inl q376) dX1_count_5 rfl
theorem r51_8 : Sd gd_mt M51 8 (i_goto 39) := sd_goto dX1_count_8 (by decide)
theorem r51_11 : Sd gd_mt M51 11 (i_ild 1 12) := sd_iload_n dX1_count_11 rfl rfl
theorem r51_12 : Sd gd_mt M51 12 (i_psh (.int 1) 13) := sd_iconst dX1_count_12 (by decide) rfl
theorem r51_13 : Sd gd_mt M51 13 (i_icne 23 16) := sd_icne dX1_count_13 (by decide) rfl
theorem r51_16 : Sd gd_mt M51 16 (i_ald 0 17) := sd_aload_n dX1_count_16 rfl rfl
theorem r51_17 : Sd gd_mt M51 17 (i_getI 1 16 20) := sd_getI ck1 (by decide) rfl (.inl q372) dX1_count_17 rfl
theorem r51_20 : Sd gd_mt M51 20 (i_goto 39) := sd_goto dX1_count_20 (by decide)
theorem r51_23 : Sd gd_mt M51 23 (i_ild 1 24) := sd_iload_n dX1_count_23 rfl rfl
theorem r51_24 : Sd gd_mt M51 24 (i_psh (.int 2) 25) := sd_iconst dX1_count_24 (by decide) rfl
theorem r51_25 : Sd gd_mt M51 25 (i_icne 38 28) := sd_icne dX1_count_25 (by decide) rfl
theorem r51_28 : Sd gd_mt M51 28 (i_ald 0 29) := sd_aload_n dX1_count_28 rfl rfl
theorem r51_29 : Sd gd_mt M51 29 (i_getR 1 2 32) := sd_getR ck1 (by decide) rfl (.inl q358) dX1_count_29 rfl
theorem r51_32 : Sd gd_mt M51 32 (i_getI 3 1 35) := sd_getI ck3 (by decide) rfl (.inr ⟨_, q311⟩) dX1_count_32 rfl
theorem r51_35 : Sd gd_mt M51 35 (i_goto 39) := sd_goto dX1_count_35 (by decide)
theorem r51_38 : Sd gd_mt M51 38 (i_psh (.int (-1)) 39) := sd_iconst dX1_count_38 (by decide) rfl
theorem r51_39 : Sd gd_mt M51 39 (i_msk [false, false] (i_iret)) := sd_msk _ (sd_iret rfl dX1_count_39)
def cl51_0 : List (Nat × gd_I) := [(0, i_ild 1 1), (1, i_ifne 11 4), (4, i_ald 0 5), (5, i_getI 1 20 8), (8, i_goto 39), (11, i_ild 1 12), (12, i_psh (.int 1) 13), (13, i_icne 23 16), (16, i_ald 0 17), (17, i_getI 1 16 20), (20, i_goto 39), (23, i_ild 1 24), (24, i_psh (.int 2) 25), (25, i_icne 38 28), (28, i_ald 0 29), (29, i_getR 1 2 32), (32, i_getI 3 1 35), (35, i_goto 39), (38, i_psh (.int (-1)) 39), (39, i_msk [false, false] (i_iret))]
theorem cs51_0 : ∀ q ∈ cl51_0, Sd gd_mt M51 q.1 q.2 := gd_ac r51_0 (gd_ac r51_1 (gd_ac r51_4 (gd_ac r51_5 (gd_ac r51_8 (gd_ac r51_11 (gd_ac r51_12 (gd_ac r51_13 (gd_ac r51_16 (gd_ac r51_17 (gd_ac r51_20 (gd_ac r51_23 (gd_ac r51_24 (gd_ac r51_25 (gd_ac r51_28 (gd_ac r51_29 (gd_ac r51_32 (gd_ac r51_35 (gd_ac r51_38 (gd_ac r51_39 (gd_an))))))))))))))))))))
def cd51 (pc : Nat) : gd_I := lkI cl51_0 pc
theorem cg51 : ∀ pc, Sd gd_mt M51 pc (cd51 pc) := sd_lk cs51_0
theorem r52_0 : Sd gd_mt M52 0 (i_ald 0 1) := sd_aload_n dX1_school_0 rfl rfl
theorem r52_1 : Sd gd_mt M52 1 (i_ild 1 2) := sd_iload_n dX1_school_1 rfl rfl
theorem r52_2 : Sd gd_mt M52 2 (i_psh (.int 0) 3) := sd_iconst dX1_school_2 (by decide) rfl
theorem r52_3 : Sd gd_mt M52 3 (i_ald 0 4) := sd_aload_n dX1_school_3 rfl rfl
theorem r52_4 : Sd gd_mt M52 4 (i_getI 1 16 7) := sd_getI ck1 (by decide) rfl (.inl q372) dX1_school_4 rfl
theorem r52_7 : Sd gd_mt M52 7 (i_cV 53 3 1 10) := sd_cV2 e53 cal53 q513 q515 (rfl : gd_cl 1 = some _) qs2 dX1_school_7 rfl
theorem r52_10 : Sd gd_mt M52 10 (i_msk [true, true, false] (i_ald 0 11)) := sd_msk _ (sd_aload_n dX1_school_10 rfl rfl)
theorem r52_11 : Sd gd_mt M52 11 (i_new 9 4 14) := sd_new ck9 (by decide) q581 q582 q99 dX1_school_11 rfl
theorem r52_14 : Sd gd_mt M52 14 (i_dup 15) := sd_dup dX1_school_14 rfl
theorem r52_15 : Sd gd_mt M52 15 (i_ald 0 16) := sd_aload_n dX1_school_15 rfl rfl
theorem r52_16 : Sd gd_mt M52 16 (i_ild 1 17) := sd_iload_n dX1_school_16 rfl rfl
theorem r52_17 : Sd gd_mt M52 17 (i_cV 54 1 1 20) := sd_cV2 e54 cal54 q583 q585 (rfl : gd_cl 1 = some _) qs4 dX1_school_17 rfl
theorem r52_20 : Sd gd_mt M52 20 (i_msk [true, false, false] (i_cV 284 1 9 23)) := sd_msk _ (sd_cI2 e284 cal284 q606 rfl rfl rfl q607 (rfl : gd_cl 9 = some _) dX1_school_20 rfl)
theorem r52_23 : Sd gd_mt M52 23 (i_msk [true, false, false] (i_cV 285 0 9 26)) := sd_msk _ (sd_cV2 e285 cal285 q631 q632 (rfl : gd_cl 9 = some _) q633 dX1_school_23 rfl)
theorem r52_26 : Sd gd_mt M52 26 (i_msk [true, false, false] (i_putR 1 15 29)) := sd_msk _ (sd_putR ck1 (by decide) rfl (.inl q371) (.inl rfl) dX1_school_26 rfl)
theorem r52_29 : Sd gd_mt M52 29 (i_goto 39) := sd_goto dX1_school_29 (by decide)
theorem r52_32 : Sd gd_mt M52 32 (i_msk [true, false, false] (i_ast 2 33)) := sd_msk _ (sd_astore_n dX1_school_32 rfl (by decide) rfl)
theorem r52_33 : Sd gd_mt M52 33 (i_ald 0 34) := sd_aload_n dX1_school_33 rfl rfl
theorem r52_34 : Sd gd_mt M52 34 (i_ald 2 35) := sd_aload_n dX1_school_34 rfl rfl
theorem r52_35 : Sd gd_mt M52 35 (i_cV 55 1 1 38) := sd_cV2 e55 cal55 q769 q771 (rfl : gd_cl 1 = some _) qs9 dX1_school_35 rfl
theorem r52_38 : Sd gd_mt M52 38 (i_msk [false, false, false] (i_iret)) := sd_msk _ (sd_iret rfl dX1_school_38)
theorem r52_39 : Sd gd_mt M52 39 (i_ald 0 40) := sd_aload_n dX1_school_39 rfl rfl
theorem r52_40 : Sd gd_mt M52 40 (i_getR 1 2 43) := sd_getR ck1 (by decide) rfl (.inl q358) dX1_school_40 rfl
theorem r52_43 : Sd gd_mt M52 43 (i_psh (.int 0) 44) := sd_iconst dX1_school_43 (by decide) rfl
theorem r52_44 : Sd gd_mt M52 44 (i_putI 3 1 47) := sd_putI ck3 (by decide) rfl (.inr ⟨_, q311⟩) (.inl rfl) dX1_school_44 rfl
theorem r52_47 : Sd gd_mt M52 47 (i_ald 0 48) := sd_aload_n dX1_school_47 rfl rfl
theorem r52_48 : Sd gd_mt M52 48 (i_getR 1 2 51) := sd_getR ck1 (by decide) rfl (.inl q358) dX1_school_48 rfl
theorem r52_51 : Sd gd_mt M52 51 (i_cV 145 0 3 54) := sd_cV2 e145 cal145 q345 q346 (rfl : gd_cl 3 = some _) q347 dX1_school_51 rfl
theorem r52_54 : Sd gd_mt M52 54 (i_msk [true, false, false] (i_ald 0 55)) := sd_msk _ (sd_aload_n dX1_school_54 rfl rfl)
theorem r52_55 : Sd gd_mt M52 55 (i_getR 1 15 58) := sd_getR ck1 (by decide) rfl (.inl q371) dX1_school_55 rfl
theorem r52_58 : Sd gd_mt M52 58 (i_cV 148 1 4 61) := sd_cV2 e148 cal148 q349 q350 (rfl : gd_cl 4 = some _) q351 dX1_school_58 rfl
theorem r52_61 : Sd gd_mt M52 61 (i_msk [true, false, false] (i_ald 0 62)) := sd_msk _ (sd_aload_n dX1_school_61 rfl rfl)
theorem r52_62 : Sd gd_mt M52 62 (i_getR 1 1 65) := sd_getR ck1 (by decide) rfl (.inl q357) dX1_school_62 rfl
theorem r52_65 : Sd gd_mt M52 65 (i_psh (.ref 0) 66) := sd_null dX1_school_65 rfl
theorem r52_66 : Sd gd_mt M52 66 (i_putR 2 0 69) := sd_putR ck2 (by decide) rfl (.inr ⟨_, q135⟩) (.inl rfl) dX1_school_66 rfl
theorem r52_69 : Sd gd_mt M52 69 (i_ald 0 70) := sd_aload_n dX1_school_69 rfl rfl
theorem r52_70 : Sd gd_mt M52 70 (i_psh (.int 0) 71) := sd_iconst dX1_school_70 (by decide) rfl
theorem r52_71 : Sd gd_mt M52 71 (i_putI 1 18 74) := sd_putI ck1 (by decide) rfl (.inl q374) (.inl rfl) dX1_school_71 rfl
theorem r52_74 : Sd gd_mt M52 74 (i_ald 0 75) := sd_aload_n dX1_school_74 rfl rfl
theorem r52_75 : Sd gd_mt M52 75 (i_psh (.int 0) 76) := sd_iconst dX1_school_75 (by decide) rfl
theorem r52_76 : Sd gd_mt M52 76 (i_putI 1 19 79) := sd_putI ck1 (by decide) rfl (.inl q375) (.inl rfl) dX1_school_76 rfl
theorem r52_79 : Sd gd_mt M52 79 (i_ald 0 80) := sd_aload_n dX1_school_79 rfl rfl
theorem r52_80 : Sd gd_mt M52 80 (i_psh (.int 0) 81) := sd_iconst dX1_school_80 (by decide) rfl
theorem r52_81 : Sd gd_mt M52 81 (i_putI 1 20 84) := sd_putI ck1 (by decide) rfl (.inl q376) (.inl rfl) dX1_school_81 rfl
theorem r52_84 : Sd gd_mt M52 84 (i_ald 0 85) := sd_aload_n dX1_school_84 rfl rfl
theorem r52_85 : Sd gd_mt M52 85 (i_getR 1 15 88) := sd_getR ck1 (by decide) rfl (.inl q371) dX1_school_85 rfl
theorem r52_88 : Sd gd_mt M52 88 (i_getI 6 7 91) := sd_getI ck6 (by decide) rfl (.inr ⟨_, q238⟩) dX1_school_88 rfl
theorem r52_91 : Sd gd_mt M52 91 (i_iret) := sd_iret rfl dX1_school_91
def cl52_0 : List (Nat × gd_I) := [(0, i_ald 0 1), (1, i_ild 1 2), (2, i_psh (.int 0) 3), (3, i_ald 0 4), (4, i_getI 1 16 7), (7, i_cV 53 3 1 10), (10, i_msk [true, true, false] (i_ald 0 11)), (11, i_new 9 4 14), (14, i_dup 15), (15, i_ald 0 16), (16, i_ild 1 17), (17, i_cV 54 1 1 20), (20, i_msk [true, false, false] (i_cV 284 1 9 23)), (23, i_msk [true, false, false] (i_cV 285 0 9 26)), (26, i_msk [true, false, false] (i_putR 1 15 29)), (29, i_goto 39), (32, i_msk [true, false, false] (i_ast 2 33)), (33, i_ald 0 34), (34, i_ald 2 35), (35, i_cV 55 1 1 38), (38, i_msk [false, false, false] (i_iret)), (39, i_ald 0 40), (40, i_getR 1 2 43), (43, i_psh (.int 0) 44), (44, i_putI 3 1 47), (47, i_ald 0 48), (48, i_getR 1 2 51), (51, i_cV 145 0 3 54), (54, i_msk [true, false, false] (i_ald 0 55)), (55, i_getR 1 15 58), (58, i_cV 148 1 4 61), (61, i_msk [true, false, false] (i_ald 0 62)), (62, i_getR 1 1 65), (65, i_psh (.ref 0) 66), (66, i_putR 2 0 69), (69, i_ald 0 70), (70, i_psh (.int 0) 71), (71, i_putI 1 18 74), (74, i_ald 0 75), (75, i_psh (.int 0) 76), (76, i_putI 1 19 79), (79, i_ald 0 80), (80, i_psh (.int 0) 81), (81, i_putI 1 20 84), (84, i_ald 0 85), (85, i_getR 1 15 88), (88, i_getI 6 7 91), (91, i_iret)]
theorem cs52_0 : ∀ q ∈ cl52_0, Sd gd_mt M52 q.1 q.2 := gd_ac r52_0 (gd_ac r52_1 (gd_ac r52_2 (gd_ac r52_3 (gd_ac r52_4 (gd_ac r52_7 (gd_ac r52_10 (gd_ac r52_11 (gd_ac r52_14 (gd_ac r52_15 (gd_ac r52_16 (gd_ac r52_17 (gd_ac r52_20 (gd_ac r52_23 (gd_ac r52_26 (gd_ac r52_29 (gd_ac r52_32 (gd_ac r52_33 (gd_ac r52_34 (gd_ac r52_35 (gd_ac r52_38 (gd_ac r52_39 (gd_ac r52_40 (gd_ac r52_43 (gd_ac r52_44 (gd_ac r52_47 (gd_ac r52_48 (gd_ac r52_51 (gd_ac r52_54 (gd_ac r52_55 (gd_ac r52_58 (gd_ac r52_61 (gd_ac r52_62 (gd_ac r52_65 (gd_ac r52_66 (gd_ac r52_69 (gd_ac r52_70 (gd_ac r52_71 (gd_ac r52_74 (gd_ac r52_75 (gd_ac r52_76 (gd_ac r52_79 (gd_ac r52_80 (gd_ac r52_81 (gd_ac r52_84 (gd_ac r52_85 (gd_ac r52_88 (gd_ac r52_91 (gd_an))))))))))))))))))))))))))))))))))))))))))))))))
def cd52 (pc : Nat) : gd_I := lkI cl52_0 pc
theorem cg52 : ∀ pc, Sd gd_mt M52 pc (cd52 pc) := sd_lk cs52_0
theorem r53_0 : Sd gd_mt M53 0 (i_ild 1 1) := sd_iload_n dX1_within_0 rfl rfl
theorem r53_1 : Sd gd_mt M53 1 (i_ild 2 2) := sd_iload_n dX1_within_1 rfl rfl
theorem r53_2 : Sd gd_mt M53 2 (i_iclt 11 5) := sd_iclt dX1_within_2 (by decide) rfl
theorem r53_5 : Sd gd_mt M53 5 (i_ild 1 6) := sd_iload_n dX1_within_5 rfl rfl
theorem r53_6 : Sd gd_mt M53 6 (i_ild 3 7) := sd_iload_n dX1_within_6 rfl rfl
theorem r53_7 : Sd gd_mt M53 7 (i_icgt 11 10) := sd_icgt dX1_within_7 (by decide) rfl
theorem r53_10 : Sd gd_mt M53 10 (i_ret) := sd_ret rfl dX1_within_10
theorem r53_11 : Sd gd_mt M53 11 (i_msk [true, false, false, false] (i_ald 0 12)) := sd_msk _ (sd_aload_n dX1_within_11 rfl rfl)
theorem r53_12 : Sd gd_mt M53 12 (i_getR 1 7 15) := sd_getR ck1 (by decide) rfl (.inl q363) dX1_within_12 rfl
theorem r53_15 : Sd gd_mt M53 15 (i_psh (.int 1) 16) := sd_iconst dX1_within_15 (by decide) rfl
theorem r53_16 : Sd gd_mt M53 16 (i_dup2 17) := sd_dup2 dX1_within_16 rfl
theorem r53_17 : Sd gd_mt M53 17 (i_aldI 31 18) := sd_iald dX1_within_17 rfl
theorem r53_18 : Sd gd_mt M53 18 (i_psh (.int 1) 19) := sd_iconst dX1_within_18 (by decide) rfl
theorem r53_19 : Sd gd_mt M53 19 (i_iadd 20) := sd_iadd dX1_within_19 rfl
theorem r53_20 : Sd gd_mt M53 20 (i_astI 21) := sd_astI dX1_within_20 rfl
theorem r53_21 : Sd gd_mt M53 21 (i_mk0 25 28) := sd_mk0 (t := 25) (names := gd_nms) rfl rfl gd_fit25 gd_fitn (by decide) q517 q98 gd_at0_25 (List.all_eq_true.mp (by decide +kernel)) dX1_within_21 dX1_within_24 dX1_within_25 rfl
theorem r53_28 : Sd gd_mt M53 28 (i_thr) := sd_thr dX1_within_28
def cl53_0 : List (Nat × gd_I) := [(0, i_ild 1 1), (1, i_ild 2 2), (2, i_iclt 11 5), (5, i_ild 1 6), (6, i_ild 3 7), (7, i_icgt 11 10), (10, i_ret), (11, i_msk [true, false, false, false] (i_ald 0 12)), (12, i_getR 1 7 15), (15, i_psh (.int 1) 16), (16, i_dup2 17), (17, i_aldI 31 18), (18, i_psh (.int 1) 19), (19, i_iadd 20), (20, i_astI 21), (21, i_mk0 25 28), (24, i_stk), (25, i_stk), (28, i_thr)]
theorem cs53_0 : ∀ q ∈ cl53_0, Sd gd_mt M53 q.1 q.2 := gd_ac r53_0 (gd_ac r53_1 (gd_ac r53_2 (gd_ac r53_5 (gd_ac r53_6 (gd_ac r53_7 (gd_ac r53_10 (gd_ac r53_11 (gd_ac r53_12 (gd_ac r53_15 (gd_ac r53_16 (gd_ac r53_17 (gd_ac r53_18 (gd_ac r53_19 (gd_ac r53_20 (gd_ac r53_21 (gd_ac sd_stk (gd_ac sd_stk (gd_ac r53_28 (gd_an)))))))))))))))))))
def cd53 (pc : Nat) : gd_I := lkI cl53_0 pc
theorem cg53 : ∀ pc, Sd gd_mt M53 pc (cd53 pc) := sd_lk cs53_0
theorem r54_0 : Sd gd_mt M54 0 (i_ald 0 1) := sd_aload_n dX1_reader_0 rfl rfl
theorem r54_1 : Sd gd_mt M54 1 (i_psh (.int 0) 2) := sd_iconst dX1_reader_1 (by decide) rfl
theorem r54_2 : Sd gd_mt M54 2 (i_putI 1 16 5) := sd_putI ck1 (by decide) rfl (.inl q372) (.inl rfl) dX1_reader_2 rfl
theorem r54_5 : Sd gd_mt M54 5 (i_ald 0 6) := sd_aload_n dX1_reader_5 rfl rfl
theorem r54_6 : Sd gd_mt M54 6 (i_psh (.int (-1)) 7) := sd_iconst dX1_reader_6 (by decide) rfl
theorem r54_7 : Sd gd_mt M54 7 (i_putI 1 17 10) := sd_putI ck1 (by decide) rfl (.inl q373) (.inl rfl) dX1_reader_7 rfl
theorem r54_10 : Sd gd_mt M54 10 (i_new 10 4 13) := sd_new ck10 (by decide) q587 q588 q100 dX1_reader_10 rfl
theorem r54_13 : Sd gd_mt M54 13 (i_dup 14) := sd_dup dX1_reader_13 rfl
theorem r54_14 : Sd gd_mt M54 14 (i_ald 0 15) := sd_aload_n dX1_reader_14 rfl rfl
theorem r54_15 : Sd gd_mt M54 15 (i_getR 1 0 18) := sd_getR ck1 (by decide) rfl (.inl q356) dX1_reader_15 rfl
theorem r54_18 : Sd gd_mt M54 18 (i_ild 1 19) := sd_iload_n dX1_reader_18 rfl rfl
theorem r54_19 : Sd gd_mt M54 19 (i_cV 96 2 10 22) := sd_cI2 e96 cal96 q589 rfl rfl rfl q590 (rfl : gd_cl 10 = some _) dX1_reader_19 rfl
theorem r54_22 : Sd gd_mt M54 22 (i_msk [false, false] (i_aret)) := sd_msk _ (sd_aret (.inl ⟨_, rfl⟩) rfl dX1_reader_22)
def cl54_0 : List (Nat × gd_I) := [(0, i_ald 0 1), (1, i_psh (.int 0) 2), (2, i_putI 1 16 5), (5, i_ald 0 6), (6, i_psh (.int (-1)) 7), (7, i_putI 1 17 10), (10, i_new 10 4 13), (13, i_dup 14), (14, i_ald 0 15), (15, i_getR 1 0 18), (18, i_ild 1 19), (19, i_cV 96 2 10 22), (22, i_msk [false, false] (i_aret))]
theorem cs54_0 : ∀ q ∈ cl54_0, Sd gd_mt M54 q.1 q.2 := gd_ac r54_0 (gd_ac r54_1 (gd_ac r54_2 (gd_ac r54_5 (gd_ac r54_6 (gd_ac r54_7 (gd_ac r54_10 (gd_ac r54_13 (gd_ac r54_14 (gd_ac r54_15 (gd_ac r54_18 (gd_ac r54_19 (gd_ac r54_22 (gd_an)))))))))))))
def cd54 (pc : Nat) : gd_I := lkI cl54_0 pc
theorem cg54 : ∀ pc, Sd gd_mt M54 pc (cd54 pc) := sd_lk cs54_0
theorem r55_0 : Sd gd_mt M55 0 (i_ald 0 1) := sd_aload_n dX1_faulty_0 rfl rfl
theorem r55_1 : Sd gd_mt M55 1 (i_ald 1 2) := sd_aload_n dX1_faulty_1 rfl rfl
theorem r55_2 : Sd gd_mt M55 2 (i_getI 11 7 5) := sd_getI ck11 (by decide) rfl (.inr ⟨_, q733⟩) dX1_faulty_2 rfl
theorem r55_5 : Sd gd_mt M55 5 (i_putI 1 17 8) := sd_putI ck1 (by decide) rfl (.inl q373) (.inl rfl) dX1_faulty_5 rfl
theorem r55_8 : Sd gd_mt M55 8 (i_ald 1 9) := sd_aload_n dX1_faulty_8 rfl rfl
theorem r55_9 : Sd gd_mt M55 9 (i_getI 11 6 12) := sd_getI ck11 (by decide) rfl (.inr ⟨_, q731⟩) dX1_faulty_9 rfl
theorem r55_12 : Sd gd_mt M55 12 (i_psh (.int 10) 14) := sd_bipush dX1_faulty_12 (by decide) rfl
theorem r55_14 : Sd gd_mt M55 14 (i_isub 15) := sd_isub dX1_faulty_14 rfl
theorem r55_15 : Sd gd_mt M55 15 (i_iret) := sd_iret rfl dX1_faulty_15
def cl55_0 : List (Nat × gd_I) := [(0, i_ald 0 1), (1, i_ald 1 2), (2, i_getI 11 7 5), (5, i_putI 1 17 8), (8, i_ald 1 9), (9, i_getI 11 6 12), (12, i_psh (.int 10) 14), (14, i_isub 15), (15, i_iret)]
theorem cs55_0 : ∀ q ∈ cl55_0, Sd gd_mt M55 q.1 q.2 := gd_ac r55_0 (gd_ac r55_1 (gd_ac r55_2 (gd_ac r55_5 (gd_ac r55_8 (gd_ac r55_9 (gd_ac r55_12 (gd_ac r55_14 (gd_ac r55_15 (gd_an)))))))))
def cd55 (pc : Nat) : gd_I := lkI cl55_0 pc
theorem cg55 : ∀ pc, Sd gd_mt M55 pc (cd55 pc) := sd_lk cs55_0
theorem r56_0 : Sd gd_mt M56 0 (i_ald 0 1) := sd_aload_n dX1_law_0 rfl rfl
theorem r56_1 : Sd gd_mt M56 1 (i_ild 1 2) := sd_iload_n dX1_law_1 rfl rfl
theorem r56_2 : Sd gd_mt M56 2 (i_psh (.int 0) 3) := sd_iconst dX1_law_2 (by decide) rfl
theorem r56_3 : Sd gd_mt M56 3 (i_ald 0 4) := sd_aload_n dX1_law_3 rfl rfl
theorem r56_4 : Sd gd_mt M56 4 (i_getI 1 16 7) := sd_getI ck1 (by decide) rfl (.inl q372) dX1_law_4 rfl
theorem r56_7 : Sd gd_mt M56 7 (i_psh (.int 150) 10) := sd_sipush dX1_law_7 (by decide) rfl
theorem r56_10 : Sd gd_mt M56 10 (i_mmin 13) := sd_mmin q780 q759 q106 q760 dX1_law_10 rfl
theorem r56_13 : Sd gd_mt M56 13 (i_msk [true, true, false] (i_cV 53 3 1 16)) := sd_msk _ (sd_cV2 e53 cal53 q513 q515 (rfl : gd_cl 1 = some _) qs2 dX1_law_13 rfl)
theorem r56_16 : Sd gd_mt M56 16 (i_msk [true, true, false] (i_ald 0 17)) := sd_msk _ (sd_aload_n dX1_law_16 rfl rfl)
theorem r56_17 : Sd gd_mt M56 17 (i_getR 1 1 20) := sd_getR ck1 (by decide) rfl (.inl q357) dX1_law_17 rfl
theorem r56_20 : Sd gd_mt M56 20 (i_new 12 2 23) := sd_new ck12 (by decide) q781 q782 q107 dX1_law_20 rfl
theorem r56_23 : Sd gd_mt M56 23 (i_dup 24) := sd_dup dX1_law_23 rfl
theorem r56_24 : Sd gd_mt M56 24 (i_ald 0 25) := sd_aload_n dX1_law_24 rfl rfl
theorem r56_25 : Sd gd_mt M56 25 (i_ild 1 26) := sd_iload_n dX1_law_25 rfl rfl
theorem r56_26 : Sd gd_mt M56 26 (i_cV 54 1 1 29) := sd_cV2 e54 cal54 q583 q585 (rfl : gd_cl 1 = some _) qs4 dX1_law_26 rfl
theorem r56_29 : Sd gd_mt M56 29 (i_msk [true, false, false] (i_cV 112 1 12 32)) := sd_msk _ (sd_cI2 e112 cal112 q783 rfl rfl rfl q784 (rfl : gd_cl 12 = some _) dX1_law_29 rfl)
theorem r56_32 : Sd gd_mt M56 32 (i_msk [true, false, false] (i_cV 113 0 12 35)) := sd_msk _ (sd_cV2 e113 cal113 q803 q804 (rfl : gd_cl 12 = some _) q805 dX1_law_32 rfl)
theorem r56_35 : Sd gd_mt M56 35 (i_msk [true, false, false] (i_putR 2 0 38)) := sd_msk _ (sd_putR ck2 (by decide) rfl (.inr ⟨_, q135⟩) (.inl rfl) dX1_law_35 rfl)
theorem r56_38 : Sd gd_mt M56 38 (i_goto 48) := sd_goto dX1_law_38 (by decide)
theorem r56_41 : Sd gd_mt M56 41 (i_msk [true, false, false] (i_ast 2 42)) := sd_msk _ (sd_astore_n dX1_law_41 rfl (by decide) rfl)
theorem r56_42 : Sd gd_mt M56 42 (i_ald 0 43) := sd_aload_n dX1_law_42 rfl rfl
theorem r56_43 : Sd gd_mt M56 43 (i_ald 2 44) := sd_aload_n dX1_law_43 rfl rfl
theorem r56_44 : Sd gd_mt M56 44 (i_cV 55 1 1 47) := sd_cV2 e55 cal55 q769 q771 (rfl : gd_cl 1 = some _) qs9 dX1_law_44 rfl
theorem r56_47 : Sd gd_mt M56 47 (i_msk [false, false, false] (i_iret)) := sd_msk _ (sd_iret rfl dX1_law_47)
theorem r56_48 : Sd gd_mt M56 48 (i_psh (.int 1) 49) := sd_iconst dX1_law_48 (by decide) rfl
theorem r56_49 : Sd gd_mt M56 49 (i_iret) := sd_iret rfl dX1_law_49
def cl56_0 : List (Nat × gd_I) := [(0, i_ald 0 1), (1, i_ild 1 2), (2, i_psh (.int 0) 3), (3, i_ald 0 4), (4, i_getI 1 16 7), (7, i_psh (.int 150) 10), (10, i_mmin 13), (13, i_msk [true, true, false] (i_cV 53 3 1 16)), (16, i_msk [true, true, false] (i_ald 0 17)), (17, i_getR 1 1 20), (20, i_new 12 2 23), (23, i_dup 24), (24, i_ald 0 25), (25, i_ild 1 26), (26, i_cV 54 1 1 29), (29, i_msk [true, false, false] (i_cV 112 1 12 32)), (32, i_msk [true, false, false] (i_cV 113 0 12 35)), (35, i_msk [true, false, false] (i_putR 2 0 38)), (38, i_goto 48), (41, i_msk [true, false, false] (i_ast 2 42)), (42, i_ald 0 43), (43, i_ald 2 44), (44, i_cV 55 1 1 47), (47, i_msk [false, false, false] (i_iret)), (48, i_psh (.int 1) 49), (49, i_iret)]
theorem cs56_0 : ∀ q ∈ cl56_0, Sd gd_mt M56 q.1 q.2 := gd_ac r56_0 (gd_ac r56_1 (gd_ac r56_2 (gd_ac r56_3 (gd_ac r56_4 (gd_ac r56_7 (gd_ac r56_10 (gd_ac r56_13 (gd_ac r56_16 (gd_ac r56_17 (gd_ac r56_20 (gd_ac r56_23 (gd_ac r56_24 (gd_ac r56_25 (gd_ac r56_26 (gd_ac r56_29 (gd_ac r56_32 (gd_ac r56_35 (gd_ac r56_38 (gd_ac r56_41 (gd_ac r56_42 (gd_ac r56_43 (gd_ac r56_44 (gd_ac r56_47 (gd_ac r56_48 (gd_ac r56_49 (gd_an))))))))))))))))))))))))))
def cd56 (pc : Nat) : gd_I := lkI cl56_0 pc
theorem cg56 : ∀ pc, Sd gd_mt M56 pc (cd56 pc) := sd_lk cs56_0
theorem r57_0 : Sd gd_mt M57 0 (i_ald 0 1) := sd_aload_n dX1_work_0 rfl rfl
theorem r57_1 : Sd gd_mt M57 1 (i_ild 1 2) := sd_iload_n dX1_work_1 rfl rfl
theorem r57_2 : Sd gd_mt M57 2 (i_psh (.int 0) 3) := sd_iconst dX1_work_2 (by decide) rfl
theorem r57_3 : Sd gd_mt M57 3 (i_ald 0 4) := sd_aload_n dX1_work_3 rfl rfl
theorem r57_4 : Sd gd_mt M57 4 (i_getI 1 16 7) := sd_getI ck1 (by decide) rfl (.inl q372) dX1_work_4 rfl
theorem r57_7 : Sd gd_mt M57 7 (i_psh (.int 150) 10) := sd_sipush dX1_work_7 (by decide) rfl
theorem r57_10 : Sd gd_mt M57 10 (i_mmin 13) := sd_mmin q780 q759 q106 q760 dX1_work_10 rfl
theorem r57_13 : Sd gd_mt M57 13 (i_msk [true, true, false, false, false] (i_cV 53 3 1 16)) := sd_msk _ (sd_cV2 e53 cal53 q513 q515 (rfl : gd_cl 1 = some _) qs2 dX1_work_13 rfl)
theorem r57_16 : Sd gd_mt M57 16 (i_msk [true, true, false, false, false] (i_ald 0 17)) := sd_msk _ (sd_aload_n dX1_work_16 rfl rfl)
theorem r57_17 : Sd gd_mt M57 17 (i_getR 1 2 20) := sd_getR ck1 (by decide) rfl (.inl q358) dX1_work_17 rfl
theorem r57_20 : Sd gd_mt M57 20 (i_getI 3 1 23) := sd_getI ck3 (by decide) rfl (.inr ⟨_, q311⟩) dX1_work_20 rfl
theorem r57_23 : Sd gd_mt M57 23 (i_psh (.int 16) 25) := sd_bipush dX1_work_23 (by decide) rfl
theorem r57_25 : Sd gd_mt M57 25 (i_icne 41 28) := sd_icne dX1_work_25 (by decide) rfl
theorem r57_28 : Sd gd_mt M57 28 (i_ald 0 29) := sd_aload_n dX1_work_28 rfl rfl
theorem r57_29 : Sd gd_mt M57 29 (i_psh (.int 0) 30) := sd_iconst dX1_work_29 (by decide) rfl
theorem r57_30 : Sd gd_mt M57 30 (i_putI 1 16 33) := sd_putI ck1 (by decide) rfl (.inl q372) (.inl rfl) dX1_work_30 rfl
theorem r57_33 : Sd gd_mt M57 33 (i_ald 0 34) := sd_aload_n dX1_work_33 rfl rfl
theorem r57_34 : Sd gd_mt M57 34 (i_psh (.int (-1)) 35) := sd_iconst dX1_work_34 (by decide) rfl
theorem r57_35 : Sd gd_mt M57 35 (i_putI 1 17 38) := sd_putI ck1 (by decide) rfl (.inl q373) (.inl rfl) dX1_work_35 rfl
theorem r57_38 : Sd gd_mt M57 38 (i_psh (.int (-20)) 40) := sd_bipush dX1_work_38 (by decide) rfl
theorem r57_40 : Sd gd_mt M57 40 (i_iret) := sd_iret rfl dX1_work_40
theorem r57_41 : Sd gd_mt M57 41 (i_psh (.ref 0) 42) := sd_null dX1_work_41 rfl
theorem r57_42 : Sd gd_mt M57 42 (i_ast 2 43) := sd_astore_n dX1_work_42 rfl (by decide) rfl
theorem r57_43 : Sd gd_mt M57 43 (i_new 16 3 46) := sd_new ck16 (by decide) q886 q887 q111 dX1_work_43 rfl
theorem r57_46 : Sd gd_mt M57 46 (i_dup 47) := sd_dup dX1_work_46 rfl
theorem r57_47 : Sd gd_mt M57 47 (i_ald 0 48) := sd_aload_n dX1_work_47 rfl rfl
theorem r57_48 : Sd gd_mt M57 48 (i_ild 1 49) := sd_iload_n dX1_work_48 rfl rfl
theorem r57_49 : Sd gd_mt M57 49 (i_cV 54 1 1 52) := sd_cV2 e54 cal54 q583 q585 (rfl : gd_cl 1 = some _) qs4 dX1_work_49 rfl
theorem r57_52 : Sd gd_mt M57 52 (i_msk [true, false, false, false, false] (i_ald 0 53)) := sd_msk _ (sd_aload_n dX1_work_52 rfl rfl)
theorem r57_53 : Sd gd_mt M57 53 (i_getR 1 15 56) := sd_getR ck1 (by decide) rfl (.inl q371) dX1_work_53 rfl
theorem r57_56 : Sd gd_mt M57 56 (i_cV 123 2 16 59) := sd_cI2 e123 cal123 q888 rfl rfl rfl q889 (rfl : gd_cl 16 = some _) dX1_work_56 rfl
theorem r57_59 : Sd gd_mt M57 59 (i_msk [true, false, false, false, false] (i_cV 124 0 16 62)) := sd_msk _ (sd_cV2 e124 cal124 q911 q912 (rfl : gd_cl 16 = some _) q913 dX1_work_59 rfl)
theorem r57_62 : Sd gd_mt M57 62 (i_msk [true, false, false, false, false] (i_ast 2 63)) := sd_msk _ (sd_astore_n dX1_work_62 rfl (by decide) rfl)
theorem r57_63 : Sd gd_mt M57 63 (i_goto 73) := sd_goto dX1_work_63 (by decide)
theorem r57_66 : Sd gd_mt M57 66 (i_msk [true, false, false, false, false] (i_ast 3 67)) := sd_msk _ (sd_astore_n dX1_work_66 rfl (by decide) rfl)
theorem r57_67 : Sd gd_mt M57 67 (i_ald 0 68) := sd_aload_n dX1_work_67 rfl rfl
theorem r57_68 : Sd gd_mt M57 68 (i_ald 3 69) := sd_aload_n dX1_work_68 rfl rfl
theorem r57_69 : Sd gd_mt M57 69 (i_cV 55 1 1 72) := sd_cV2 e55 cal55 q769 q771 (rfl : gd_cl 1 = some _) qs9 dX1_work_69 rfl
theorem r57_72 : Sd gd_mt M57 72 (i_msk [false, false, false, false, false] (i_iret)) := sd_msk _ (sd_iret rfl dX1_work_72)
theorem r57_73 : Sd gd_mt M57 73 (i_ald 0 74) := sd_aload_n dX1_work_73 rfl rfl
theorem r57_74 : Sd gd_mt M57 74 (i_getR 1 2 77) := sd_getR ck1 (by decide) rfl (.inl q358) dX1_work_74 rfl
theorem r57_77 : Sd gd_mt M57 77 (i_cV 145 0 3 80) := sd_cV2 e145 cal145 q345 q346 (rfl : gd_cl 3 = some _) q347 dX1_work_77 rfl
theorem r57_80 : Sd gd_mt M57 80 (i_msk [true, false, true, false, false] (i_ast 3 81)) := sd_msk _ (sd_astore_n dX1_work_80 rfl (by decide) rfl)
theorem r57_81 : Sd gd_mt M57 81 (i_ald 0 82) := sd_aload_n dX1_work_81 rfl rfl
theorem r57_82 : Sd gd_mt M57 82 (i_getR 1 2 85) := sd_getR ck1 (by decide) rfl (.inl q358) dX1_work_82 rfl
theorem r57_85 : Sd gd_mt M57 85 (i_dup 86) := sd_dup dX1_work_85 rfl
theorem r57_86 : Sd gd_mt M57 86 (i_getI 3 1 89) := sd_getI ck3 (by decide) rfl (.inr ⟨_, q311⟩) dX1_work_86 rfl
theorem r57_89 : Sd gd_mt M57 89 (i_psh (.int 1) 90) := sd_iconst dX1_work_89 (by decide) rfl
def cl57_0 : List (Nat × gd_I) := [(0, i_ald 0 1), (1, i_ild 1 2), (2, i_psh (.int 0) 3), (3, i_ald 0 4), (4, i_getI 1 16 7), (7, i_psh (.int 150) 10), (10, i_mmin 13), (13, i_msk [true, true, false, false, false] (i_cV 53 3 1 16)), (16, i_msk [true, true, false, false, false] (i_ald 0 17)), (17, i_getR 1 2 20), (20, i_getI 3 1 23), (23, i_psh (.int 16) 25), (25, i_icne 41 28), (28, i_ald 0 29), (29, i_psh (.int 0) 30), (30, i_putI 1 16 33), (33, i_ald 0 34), (34, i_psh (.int (-1)) 35), (35, i_putI 1 17 38), (38, i_psh (.int (-20)) 40), (40, i_iret), (41, i_psh (.ref 0) 42), (42, i_ast 2 43), (43, i_new 16 3 46), (46, i_dup 47), (47, i_ald 0 48), (48, i_ild 1 49), (49, i_cV 54 1 1 52), (52, i_msk [true, false, false, false, false] (i_ald 0 53)), (53, i_getR 1 15 56), (56, i_cV 123 2 16 59), (59, i_msk [true, false, false, false, false] (i_cV 124 0 16 62)), (62, i_msk [true, false, false, false, false] (i_ast 2 63)), (63, i_goto 73), (66, i_msk [true, false, false, false, false] (i_ast 3 67)), (67, i_ald 0 68), (68, i_ald 3 69), (69, i_cV 55 1 1 72), (72, i_msk [false, false, false, false, false] (i_iret)), (73, i_ald 0 74), (74, i_getR 1 2 77), (77, i_cV 145 0 3 80), (80, i_msk [true, false, true, false, false] (i_ast 3 81)), (81, i_ald 0 82), (82, i_getR 1 2 85), (85, i_dup 86), (86, i_getI 3 1 89), (89, i_psh (.int 1) 90)]
theorem cs57_0 : ∀ q ∈ cl57_0, Sd gd_mt M57 q.1 q.2 := gd_ac r57_0 (gd_ac r57_1 (gd_ac r57_2 (gd_ac r57_3 (gd_ac r57_4 (gd_ac r57_7 (gd_ac r57_10 (gd_ac r57_13 (gd_ac r57_16 (gd_ac r57_17 (gd_ac r57_20 (gd_ac r57_23 (gd_ac r57_25 (gd_ac r57_28 (gd_ac r57_29 (gd_ac r57_30 (gd_ac r57_33 (gd_ac r57_34 (gd_ac r57_35 (gd_ac r57_38 (gd_ac r57_40 (gd_ac r57_41 (gd_ac r57_42 (gd_ac r57_43 (gd_ac r57_46 (gd_ac r57_47 (gd_ac r57_48 (gd_ac r57_49 (gd_ac r57_52 (gd_ac r57_53 (gd_ac r57_56 (gd_ac r57_59 (gd_ac r57_62 (gd_ac r57_63 (gd_ac r57_66 (gd_ac r57_67 (gd_ac r57_68 (gd_ac r57_69 (gd_ac r57_72 (gd_ac r57_73 (gd_ac r57_74 (gd_ac r57_77 (gd_ac r57_80 (gd_ac r57_81 (gd_ac r57_82 (gd_ac r57_85 (gd_ac r57_86 (gd_ac r57_89 (gd_an))))))))))))))))))))))))))))))))))))))))))))))))
theorem r57_90 : Sd gd_mt M57 90 (i_iadd 91) := sd_iadd dX1_work_90 rfl
theorem r57_91 : Sd gd_mt M57 91 (i_putI 3 1 94) := sd_putI ck3 (by decide) rfl (.inr ⟨_, q311⟩) (.inl rfl) dX1_work_91 rfl
theorem r57_94 : Sd gd_mt M57 94 (i_new 22 4 97) := sd_new ck22 (by decide) q999 q1000 q117 dX1_work_94 rfl
theorem r57_97 : Sd gd_mt M57 97 (i_dup 98) := sd_dup dX1_work_97 rfl
theorem r57_98 : Sd gd_mt M57 98 (i_ald 0 99) := sd_aload_n dX1_work_98 rfl rfl
theorem r57_99 : Sd gd_mt M57 99 (i_getR 1 2 102) := sd_getR ck1 (by decide) rfl (.inl q358) dX1_work_99 rfl
theorem r57_102 : Sd gd_mt M57 102 (i_cV 145 0 3 105) := sd_cV2 e145 cal145 q345 q346 (rfl : gd_cl 3 = some _) q347 dX1_work_102 rfl
theorem r57_105 : Sd gd_mt M57 105 (i_msk [true, false, true, true, false] (i_ald 3 106)) := sd_msk _ (sd_aload_n dX1_work_105 rfl rfl)
theorem r57_106 : Sd gd_mt M57 106 (i_cV 150 1 4 109) := sd_cV2 e150 cal150 q1001 q489 (rfl : gd_cl 4 = some _) q490 dX1_work_106 rfl
theorem r57_109 : Sd gd_mt M57 109 (i_msk [true, false, true, false, false] (i_cV 140 1 22 112)) := sd_msk _ (sd_cI2 e140 cal140 q1002 rfl rfl rfl q1003 (rfl : gd_cl 22 = some _) dX1_work_109 rfl)
theorem r57_112 : Sd gd_mt M57 112 (i_msk [true, false, true, false, false] (i_ast 4 114)) := sd_msk _ (sd_astore dX1_work_112 (by decide) rfl)
theorem r57_114 : Sd gd_mt M57 114 (i_ald 2 115) := sd_aload_n dX1_work_114 rfl rfl
theorem r57_115 : Sd gd_mt M57 115 (i_ald 4 117) := sd_aload dX1_work_115 rfl
theorem r57_117 : Sd gd_mt M57 117 (i_cV 131 1 18 120) := sd_cV2 e131 cal131 q1024 q1025 (rfl : gd_cl 18 = some _) q1026 dX1_work_117 rfl
theorem r57_120 : Sd gd_mt M57 120 (i_msk [true, false, false, false, true] (i_ald 0 121)) := sd_msk _ (sd_aload_n dX1_work_120 rfl rfl)
theorem r57_121 : Sd gd_mt M57 121 (i_ald 4 123) := sd_aload dX1_work_121 rfl
theorem r57_123 : Sd gd_mt M57 123 (i_getI 22 3 126) := sd_getI ck22 (by decide) rfl (.inr ⟨_, q1014⟩) dX1_work_123 rfl
theorem r57_126 : Sd gd_mt M57 126 (i_putI 1 19 129) := sd_putI ck1 (by decide) rfl (.inl q375) (.inl rfl) dX1_work_126 rfl
theorem r57_129 : Sd gd_mt M57 129 (i_ald 4 131) := sd_aload dX1_work_129 rfl
theorem r57_131 : Sd gd_mt M57 131 (i_getI 22 2 134) := sd_getI ck22 (by decide) rfl (.inr ⟨_, q1012⟩) dX1_work_131 rfl
theorem r57_134 : Sd gd_mt M57 134 (i_iret) := sd_iret rfl dX1_work_134
def cl57_1 : List (Nat × gd_I) := [(90, i_iadd 91), (91, i_putI 3 1 94), (94, i_new 22 4 97), (97, i_dup 98), (98, i_ald 0 99), (99, i_getR 1 2 102), (102, i_cV 145 0 3 105), (105, i_msk [true, false, true, true, false] (i_ald 3 106)), (106, i_cV 150 1 4 109), (109, i_msk [true, false, true, false, false] (i_cV 140 1 22 112)), (112, i_msk [true, false, true, false, false] (i_ast 4 114)), (114, i_ald 2 115), (115, i_ald 4 117), (117, i_cV 131 1 18 120), (120, i_msk [true, false, false, false, true] (i_ald 0 121)), (121, i_ald 4 123), (123, i_getI 22 3 126), (126, i_putI 1 19 129), (129, i_ald 4 131), (131, i_getI 22 2 134), (134, i_iret)]
theorem cs57_1 : ∀ q ∈ cl57_1, Sd gd_mt M57 q.1 q.2 := gd_ac r57_90 (gd_ac r57_91 (gd_ac r57_94 (gd_ac r57_97 (gd_ac r57_98 (gd_ac r57_99 (gd_ac r57_102 (gd_ac r57_105 (gd_ac r57_106 (gd_ac r57_109 (gd_ac r57_112 (gd_ac r57_114 (gd_ac r57_115 (gd_ac r57_117 (gd_ac r57_120 (gd_ac r57_121 (gd_ac r57_123 (gd_ac r57_126 (gd_ac r57_129 (gd_ac r57_131 (gd_ac r57_134 (gd_an)))))))))))))))))))))
def cd57 (pc : Nat) : gd_I := if pc < 90 then lkI cl57_0 pc else lkI cl57_1 pc
theorem cg57 : ∀ pc, Sd gd_mt M57 pc (cd57 pc) := by
  intro pc
  unfold cd57
  by_cases h0 : pc < 90
  · rw [if_pos h0]; exact sd_lk cs57_0 pc
  rw [if_neg h0]
  exact sd_lk cs57_1 pc
theorem r58_0 : Sd gd_mt M58 0 (i_ald 0 1) := sd_aload_n dX1_book_0 rfl rfl
theorem r58_1 : Sd gd_mt M58 1 (i_ild 1 2) := sd_iload_n dX1_book_1 rfl rfl
theorem r58_2 : Sd gd_mt M58 2 (i_psh (.int 0) 3) := sd_iconst dX1_book_2 (by decide) rfl
theorem r58_3 : Sd gd_mt M58 3 (i_ald 0 4) := sd_aload_n dX1_book_3 rfl rfl
theorem r58_4 : Sd gd_mt M58 4 (i_getI 1 16 7) := sd_getI ck1 (by decide) rfl (.inl q372) dX1_book_4 rfl
theorem r58_7 : Sd gd_mt M58 7 (i_psh (.int 60) 9) := sd_bipush dX1_book_7 (by decide) rfl
theorem r58_9 : Sd gd_mt M58 9 (i_mmin 12) := sd_mmin q780 q759 q106 q760 dX1_book_9 rfl
theorem r58_12 : Sd gd_mt M58 12 (i_msk [true, true, false, false, false, false, false, false, false] (i_cV 53 3 1 15)) := sd_msk _ (sd_cV2 e53 cal53 q513 q515 (rfl : gd_cl 1 = some _) qs2 dX1_book_12 rfl)
theorem r58_15 : Sd gd_mt M58 15 (i_msk [true, true, false, false, false, false, false, false, false] (i_psh (.int 6) 17)) := sd_msk _ (sd_bipush dX1_book_15 (by decide) rfl)
theorem r58_17 : Sd gd_mt M58 17 (i_newa 31 19) := sd_newa (t := 31) (at9 := .int) rfl rfl (by decide) (fun G s h => (h.2.2.1 31 _ rfl).2) q201 dX1_book_17 rfl
theorem r58_19 : Sd gd_mt M58 19 (i_ast 2 20) := sd_astore_n dX1_book_19 rfl (by decide) rfl
theorem r58_20 : Sd gd_mt M58 20 (i_psh (.int 6) 22) := sd_bipush dX1_book_20 (by decide) rfl
theorem r58_22 : Sd gd_mt M58 22 (i_newa 31 24) := sd_newa (t := 31) (at9 := .int) rfl rfl (by decide) (fun G s h => (h.2.2.1 31 _ rfl).2) q201 dX1_book_22 rfl
theorem r58_24 : Sd gd_mt M58 24 (i_ast 3 25) := sd_astore_n dX1_book_24 rfl (by decide) rfl
theorem r58_25 : Sd gd_mt M58 25 (i_psh (.int 0) 26) := sd_iconst dX1_book_25 (by decide) rfl
theorem r58_26 : Sd gd_mt M58 26 (i_ist 4 28) := sd_istore dX1_book_26 (by decide) rfl
theorem r58_28 : Sd gd_mt M58 28 (i_ald 0 29) := sd_aload_n dX1_book_28 rfl rfl
theorem r58_29 : Sd gd_mt M58 29 (i_ild 1 30) := sd_iload_n dX1_book_29 rfl rfl
theorem r58_30 : Sd gd_mt M58 30 (i_cV 54 1 1 33) := sd_cV2 e54 cal54 q583 q585 (rfl : gd_cl 1 = some _) qs4 dX1_book_30 rfl
theorem r58_33 : Sd gd_mt M58 33 (i_msk [true, false, true, true, true, false, false, false, false] (i_ast 5 35)) := sd_msk _ (sd_astore dX1_book_33 (by decide) rfl)
theorem r58_35 : Sd gd_mt M58 35 (i_msk [true, false, true, true, true, true, false, false, false] (i_ald 5 37)) := sd_msk _ (sd_aload dX1_book_35 rfl)
theorem r58_37 : Sd gd_mt M58 37 (i_cV 97 0 10 40) := sd_cV2 e97 cal97 q1164 q636 (rfl : gd_cl 10 = some _) q637 dX1_book_37 rfl
theorem r58_40 : Sd gd_mt M58 40 (i_msk [true, false, true, true, true, true, false, false, false] (i_psh (.int (-1)) 41)) := sd_msk _ (sd_iconst dX1_book_40 (by decide) rfl)
theorem r58_41 : Sd gd_mt M58 41 (i_iceq 147 44) := sd_iceq dX1_book_41 (by decide) rfl
theorem r58_44 : Sd gd_mt M58 44 (i_ald 5 46) := sd_aload dX1_book_44 rfl
theorem r58_46 : Sd gd_mt M58 46 (i_cV 99 0 10 49) := sd_cV2 e99 cal99 q1165 q648 (rfl : gd_cl 10 = some _) q649 dX1_book_46 rfl
theorem r58_49 : Sd gd_mt M58 49 (i_msk [true, false, true, true, true, true, false, false, false] (i_ist 6 51)) := sd_msk _ (sd_istore dX1_book_49 (by decide) rfl)
theorem r58_51 : Sd gd_mt M58 51 (i_ald 5 53) := sd_aload dX1_book_51 rfl
theorem r58_53 : Sd gd_mt M58 53 (i_psh (.int 1) 54) := sd_iconst dX1_book_53 (by decide) rfl
theorem r58_54 : Sd gd_mt M58 54 (i_psh (.int 12) 56) := sd_bipush dX1_book_54 (by decide) rfl
theorem r58_56 : Sd gd_mt M58 56 (i_cV 104 2 10 59) := sd_cV2 e104 cal104 q1166 q749 (rfl : gd_cl 10 = some _) q750 dX1_book_56 rfl
theorem r58_59 : Sd gd_mt M58 59 (i_msk [true, false, true, true, true, true, true, false, false] (i_ist 7 61)) := sd_msk _ (sd_istore dX1_book_59 (by decide) rfl)
theorem r58_61 : Sd gd_mt M58 61 (i_psh (.int 0) 62) := sd_iconst dX1_book_61 (by decide) rfl
theorem r58_62 : Sd gd_mt M58 62 (i_ist 8 64) := sd_istore dX1_book_62 (by decide) rfl
theorem r58_64 : Sd gd_mt M58 64 (i_msk [true, false, true, true, true, true, true, true, true] (i_ild 8 66)) := sd_msk _ (sd_iload dX1_book_64 rfl)
theorem r58_66 : Sd gd_mt M58 66 (i_ild 4 68) := sd_iload dX1_book_66 rfl
theorem r58_68 : Sd gd_mt M58 68 (i_icge 97 71) := sd_icge dX1_book_68 (by decide) rfl
theorem r58_71 : Sd gd_mt M58 71 (i_ald 2 72) := sd_aload_n dX1_book_71 rfl rfl
theorem r58_72 : Sd gd_mt M58 72 (i_ild 8 74) := sd_iload dX1_book_72 rfl
theorem r58_74 : Sd gd_mt M58 74 (i_aldI 31 75) := sd_iald dX1_book_74 rfl
theorem r58_75 : Sd gd_mt M58 75 (i_ild 7 77) := sd_iload dX1_book_75 rfl
theorem r58_77 : Sd gd_mt M58 77 (i_icne 91 80) := sd_icne dX1_book_77 (by decide) rfl
theorem r58_80 : Sd gd_mt M58 80 (i_new 11 8 83) := sd_new ck11 (by decide) q512 q713 q105 dX1_book_80 rfl
theorem r58_83 : Sd gd_mt M58 83 (i_dup 84) := sd_dup dX1_book_83 rfl
theorem r58_84 : Sd gd_mt M58 84 (i_psh (.int 2) 85) := sd_iconst dX1_book_84 (by decide) rfl
theorem r58_85 : Sd gd_mt M58 85 (i_ild 6 87) := sd_iload dX1_book_85 rfl
theorem r58_87 : Sd gd_mt M58 87 (i_cV 111 2 11 90) := sd_cI2 e111 cal111 q1167 rfl rfl rfl q722 (rfl : gd_cl 11 = some _) dX1_book_87 rfl
theorem r58_90 : Sd gd_mt M58 90 (i_thr) := sd_thr dX1_book_90
def cl58_0 : List (Nat × gd_I) := [(0, i_ald 0 1), (1, i_ild 1 2), (2, i_psh (.int 0) 3), (3, i_ald 0 4), (4, i_getI 1 16 7), (7, i_psh (.int 60) 9), (9, i_mmin 12), (12, i_msk [true, true, false, false, false, false, false, false, false] (i_cV 53 3 1 15)), (15, i_msk [true, true, false, false, false, false, false, false, false] (i_psh (.int 6) 17)), (17, i_newa 31 19), (19, i_ast 2 20), (20, i_psh (.int 6) 22), (22, i_newa 31 24), (24, i_ast 3 25), (25, i_psh (.int 0) 26), (26, i_ist 4 28), (28, i_ald 0 29), (29, i_ild 1 30), (30, i_cV 54 1 1 33), (33, i_msk [true, false, true, true, true, false, false, false, false] (i_ast 5 35)), (35, i_msk [true, false, true, true, true, true, false, false, false] (i_ald 5 37)), (37, i_cV 97 0 10 40), (40, i_msk [true, false, true, true, true, true, false, false, false] (i_psh (.int (-1)) 41)), (41, i_iceq 147 44), (44, i_ald 5 46), (46, i_cV 99 0 10 49), (49, i_msk [true, false, true, true, true, true, false, false, false] (i_ist 6 51)), (51, i_ald 5 53), (53, i_psh (.int 1) 54), (54, i_psh (.int 12) 56), (56, i_cV 104 2 10 59), (59, i_msk [true, false, true, true, true, true, true, false, false] (i_ist 7 61)), (61, i_psh (.int 0) 62), (62, i_ist 8 64), (64, i_msk [true, false, true, true, true, true, true, true, true] (i_ild 8 66)), (66, i_ild 4 68), (68, i_icge 97 71), (71, i_ald 2 72), (72, i_ild 8 74), (74, i_aldI 31 75), (75, i_ild 7 77), (77, i_icne 91 80), (80, i_new 11 8 83), (83, i_dup 84), (84, i_psh (.int 2) 85), (85, i_ild 6 87), (87, i_cV 111 2 11 90), (90, i_thr)]
theorem cs58_0 : ∀ q ∈ cl58_0, Sd gd_mt M58 q.1 q.2 := gd_ac r58_0 (gd_ac r58_1 (gd_ac r58_2 (gd_ac r58_3 (gd_ac r58_4 (gd_ac r58_7 (gd_ac r58_9 (gd_ac r58_12 (gd_ac r58_15 (gd_ac r58_17 (gd_ac r58_19 (gd_ac r58_20 (gd_ac r58_22 (gd_ac r58_24 (gd_ac r58_25 (gd_ac r58_26 (gd_ac r58_28 (gd_ac r58_29 (gd_ac r58_30 (gd_ac r58_33 (gd_ac r58_35 (gd_ac r58_37 (gd_ac r58_40 (gd_ac r58_41 (gd_ac r58_44 (gd_ac r58_46 (gd_ac r58_49 (gd_ac r58_51 (gd_ac r58_53 (gd_ac r58_54 (gd_ac r58_56 (gd_ac r58_59 (gd_ac r58_61 (gd_ac r58_62 (gd_ac r58_64 (gd_ac r58_66 (gd_ac r58_68 (gd_ac r58_71 (gd_ac r58_72 (gd_ac r58_74 (gd_ac r58_75 (gd_ac r58_77 (gd_ac r58_80 (gd_ac r58_83 (gd_ac r58_84 (gd_ac r58_85 (gd_ac r58_87 (gd_ac r58_90 (gd_an))))))))))))))))))))))))))))))))))))))))))))))))
theorem r58_91 : Sd gd_mt M58 91 (i_inc 8 1 94) := sd_iinc dX1_book_91 (by decide) (by decide) rfl
theorem r58_94 : Sd gd_mt M58 94 (i_goto 64) := sd_goto dX1_book_94 (by decide)
theorem r58_97 : Sd gd_mt M58 97 (i_ild 4 99) := sd_iload dX1_book_97 rfl
theorem r58_99 : Sd gd_mt M58 99 (i_psh (.int 6) 101) := sd_bipush dX1_book_99 (by decide) rfl
theorem r58_101 : Sd gd_mt M58 101 (i_icne 115 104) := sd_icne dX1_book_101 (by decide) rfl
theorem r58_104 : Sd gd_mt M58 104 (i_new 11 8 107) := sd_new ck11 (by decide) q512 q713 q105 dX1_book_104 rfl
theorem r58_107 : Sd gd_mt M58 107 (i_dup 108) := sd_dup dX1_book_107 rfl
theorem r58_108 : Sd gd_mt M58 108 (i_psh (.int 3) 109) := sd_iconst dX1_book_108 (by decide) rfl
theorem r58_109 : Sd gd_mt M58 109 (i_ild 6 111) := sd_iload dX1_book_109 rfl
theorem r58_111 : Sd gd_mt M58 111 (i_cV 111 2 11 114) := sd_cI2 e111 cal111 q1167 rfl rfl rfl q722 (rfl : gd_cl 11 = some _) dX1_book_111 rfl
theorem r58_114 : Sd gd_mt M58 114 (i_thr) := sd_thr dX1_book_114
theorem r58_115 : Sd gd_mt M58 115 (i_ald 2 116) := sd_aload_n dX1_book_115 rfl rfl
theorem r58_116 : Sd gd_mt M58 116 (i_ild 4 118) := sd_iload dX1_book_116 rfl
theorem r58_118 : Sd gd_mt M58 118 (i_ild 7 120) := sd_iload dX1_book_118 rfl
theorem r58_120 : Sd gd_mt M58 120 (i_astI 121) := sd_astI dX1_book_120 rfl
theorem r58_121 : Sd gd_mt M58 121 (i_ald 3 122) := sd_aload_n dX1_book_121 rfl rfl
theorem r58_122 : Sd gd_mt M58 122 (i_ild 4 124) := sd_iload dX1_book_122 rfl
theorem r58_124 : Sd gd_mt M58 124 (i_ald 5 126) := sd_aload dX1_book_124 rfl
theorem r58_126 : Sd gd_mt M58 126 (i_psh (.int 0) 127) := sd_iconst dX1_book_126 (by decide) rfl
theorem r58_127 : Sd gd_mt M58 127 (i_psh (.int 999) 130) := sd_sipush dX1_book_127 (by decide) rfl
theorem r58_130 : Sd gd_mt M58 130 (i_cV 104 2 10 133) := sd_cV2 e104 cal104 q1166 q749 (rfl : gd_cl 10 = some _) q750 dX1_book_130 rfl
theorem r58_133 : Sd gd_mt M58 133 (i_msk [true, false, true, true, true, true, false, false, false] (i_astI 134)) := sd_msk _ (sd_astI dX1_book_133 rfl)
theorem r58_134 : Sd gd_mt M58 134 (i_ald 5 136) := sd_aload dX1_book_134 rfl
theorem r58_136 : Sd gd_mt M58 136 (i_psh (.int 59) 138) := sd_bipush dX1_book_136 (by decide) rfl
theorem r58_138 : Sd gd_mt M58 138 (i_cV 106 1 10 141) := sd_cV2 e106 cal106 q1168 q766 (rfl : gd_cl 10 = some _) q767 dX1_book_138 rfl
theorem r58_141 : Sd gd_mt M58 141 (i_msk [true, false, true, true, true, true, false, false, false] (i_inc 4 1 144)) := sd_msk _ (sd_iinc dX1_book_141 (by decide) (by decide) rfl)
theorem r58_144 : Sd gd_mt M58 144 (i_goto 35) := sd_goto dX1_book_144 (by decide)
theorem r58_147 : Sd gd_mt M58 147 (i_goto 159) := sd_goto dX1_book_147 (by decide)
theorem r58_150 : Sd gd_mt M58 150 (i_msk [true, false, false, false, false, false, false, false, false] (i_ast 5 152)) := sd_msk _ (sd_astore dX1_book_150 (by decide) rfl)
theorem r58_152 : Sd gd_mt M58 152 (i_ald 0 153) := sd_aload_n dX1_book_152 rfl rfl
theorem r58_153 : Sd gd_mt M58 153 (i_ald 5 155) := sd_aload dX1_book_153 rfl
theorem r58_155 : Sd gd_mt M58 155 (i_cV 55 1 1 158) := sd_cV2 e55 cal55 q769 q771 (rfl : gd_cl 1 = some _) qs9 dX1_book_155 rfl
theorem r58_158 : Sd gd_mt M58 158 (i_msk [false, false, false, false, false, false, false, false, false] (i_iret)) := sd_msk _ (sd_iret rfl dX1_book_158)
theorem r58_159 : Sd gd_mt M58 159 (i_ald 0 160) := sd_aload_n dX1_book_159 rfl rfl
theorem r58_160 : Sd gd_mt M58 160 (i_ild 4 162) := sd_iload dX1_book_160 rfl
theorem r58_162 : Sd gd_mt M58 162 (i_putI 1 18 165) := sd_putI ck1 (by decide) rfl (.inl q374) (.inl rfl) dX1_book_162 rfl
theorem r58_165 : Sd gd_mt M58 165 (i_ald 2 166) := sd_aload_n dX1_book_165 rfl rfl
theorem r58_166 : Sd gd_mt M58 166 (i_psh (.int 0) 167) := sd_iconst dX1_book_166 (by decide) rfl
theorem r58_167 : Sd gd_mt M58 167 (i_ald 0 168) := sd_aload_n dX1_book_167 rfl rfl
theorem r58_168 : Sd gd_mt M58 168 (i_getR 1 8 171) := sd_getR ck1 (by decide) rfl (.inl q364) dX1_book_168 rfl
theorem r58_171 : Sd gd_mt M58 171 (i_psh (.int 0) 172) := sd_iconst dX1_book_171 (by decide) rfl
theorem r58_172 : Sd gd_mt M58 172 (i_psh (.int 6) 174) := sd_bipush dX1_book_172 (by decide) rfl
theorem r58_174 : Sd gd_mt M58 174 (i_acp 177) := sd_acp q1169 q355 q354 q93 dX1_book_174 rfl
theorem r58_177 : Sd gd_mt M58 177 (i_msk [true, false, false, true, false, false, false, false, false] (i_ald 3 178)) := sd_msk _ (sd_aload_n dX1_book_177 rfl rfl)
theorem r58_178 : Sd gd_mt M58 178 (i_psh (.int 0) 179) := sd_iconst dX1_book_178 (by decide) rfl
theorem r58_179 : Sd gd_mt M58 179 (i_ald 0 180) := sd_aload_n dX1_book_179 rfl rfl
theorem r58_180 : Sd gd_mt M58 180 (i_getR 1 9 183) := sd_getR ck1 (by decide) rfl (.inl q365) dX1_book_180 rfl
theorem r58_183 : Sd gd_mt M58 183 (i_psh (.int 0) 184) := sd_iconst dX1_book_183 (by decide) rfl
def cl58_1 : List (Nat × gd_I) := [(91, i_inc 8 1 94), (94, i_goto 64), (97, i_ild 4 99), (99, i_psh (.int 6) 101), (101, i_icne 115 104), (104, i_new 11 8 107), (107, i_dup 108), (108, i_psh (.int 3) 109), (109, i_ild 6 111), (111, i_cV 111 2 11 114), (114, i_thr), (115, i_ald 2 116), (116, i_ild 4 118), (118, i_ild 7 120), (120, i_astI 121), (121, i_ald 3 122), (122, i_ild 4 124), (124, i_ald 5 126), (126, i_psh (.int 0) 127), (127, i_psh (.int 999) 130), (130, i_cV 104 2 10 133), (133, i_msk [true, false, true, true, true, true, false, false, false] (i_astI 134)), (134, i_ald 5 136), (136, i_psh (.int 59) 138), (138, i_cV 106 1 10 141), (141, i_msk [true, false, true, true, true, true, false, false, false] (i_inc 4 1 144)), (144, i_goto 35), (147, i_goto 159), (150, i_msk [true, false, false, false, false, false, false, false, false] (i_ast 5 152)), (152, i_ald 0 153), (153, i_ald 5 155), (155, i_cV 55 1 1 158), (158, i_msk [false, false, false, false, false, false, false, false, false] (i_iret)), (159, i_ald 0 160), (160, i_ild 4 162), (162, i_putI 1 18 165), (165, i_ald 2 166), (166, i_psh (.int 0) 167), (167, i_ald 0 168), (168, i_getR 1 8 171), (171, i_psh (.int 0) 172), (172, i_psh (.int 6) 174), (174, i_acp 177), (177, i_msk [true, false, false, true, false, false, false, false, false] (i_ald 3 178)), (178, i_psh (.int 0) 179), (179, i_ald 0 180), (180, i_getR 1 9 183), (183, i_psh (.int 0) 184)]
theorem cs58_1 : ∀ q ∈ cl58_1, Sd gd_mt M58 q.1 q.2 := gd_ac r58_91 (gd_ac r58_94 (gd_ac r58_97 (gd_ac r58_99 (gd_ac r58_101 (gd_ac r58_104 (gd_ac r58_107 (gd_ac r58_108 (gd_ac r58_109 (gd_ac r58_111 (gd_ac r58_114 (gd_ac r58_115 (gd_ac r58_116 (gd_ac r58_118 (gd_ac r58_120 (gd_ac r58_121 (gd_ac r58_122 (gd_ac r58_124 (gd_ac r58_126 (gd_ac r58_127 (gd_ac r58_130 (gd_ac r58_133 (gd_ac r58_134 (gd_ac r58_136 (gd_ac r58_138 (gd_ac r58_141 (gd_ac r58_144 (gd_ac r58_147 (gd_ac r58_150 (gd_ac r58_152 (gd_ac r58_153 (gd_ac r58_155 (gd_ac r58_158 (gd_ac r58_159 (gd_ac r58_160 (gd_ac r58_162 (gd_ac r58_165 (gd_ac r58_166 (gd_ac r58_167 (gd_ac r58_168 (gd_ac r58_171 (gd_ac r58_172 (gd_ac r58_174 (gd_ac r58_177 (gd_ac r58_178 (gd_ac r58_179 (gd_ac r58_180 (gd_ac r58_183 (gd_an))))))))))))))))))))))))))))))))))))))))))))))))
theorem r58_184 : Sd gd_mt M58 184 (i_psh (.int 6) 186) := sd_bipush dX1_book_184 (by decide) rfl
theorem r58_186 : Sd gd_mt M58 186 (i_acp 189) := sd_acp q1169 q355 q354 q93 dX1_book_186 rfl
theorem r58_189 : Sd gd_mt M58 189 (i_msk [true, false, false, false, false, false, false, false, false] (i_ald 0 190)) := sd_msk _ (sd_aload_n dX1_book_189 rfl rfl)
theorem r58_190 : Sd gd_mt M58 190 (i_getI 1 18 193) := sd_getI ck1 (by decide) rfl (.inl q374) dX1_book_190 rfl
theorem r58_193 : Sd gd_mt M58 193 (i_iret) := sd_iret rfl dX1_book_193
def cl58_2 : List (Nat × gd_I) := [(184, i_psh (.int 6) 186), (186, i_acp 189), (189, i_msk [true, false, false, false, false, false, false, false, false] (i_ald 0 190)), (190, i_getI 1 18 193), (193, i_iret)]
theorem cs58_2 : ∀ q ∈ cl58_2, Sd gd_mt M58 q.1 q.2 := gd_ac r58_184 (gd_ac r58_186 (gd_ac r58_189 (gd_ac r58_190 (gd_ac r58_193 (gd_an)))))
def cd58 (pc : Nat) : gd_I := if pc < 91 then lkI cl58_0 pc else if pc < 184 then lkI cl58_1 pc else lkI cl58_2 pc
theorem cg58 : ∀ pc, Sd gd_mt M58 pc (cd58 pc) := by
  intro pc
  unfold cd58
  by_cases h0 : pc < 91
  · rw [if_pos h0]; exact sd_lk cs58_0 pc
  rw [if_neg h0]
  by_cases h1 : pc < 184
  · rw [if_pos h1]; exact sd_lk cs58_1 pc
  rw [if_neg h1]
  exact sd_lk cs58_2 pc
theorem r59_0 : Sd gd_mt M59 0 (i_ald 0 1) := sd_aload_n dX1_told_0 rfl rfl
theorem r59_1 : Sd gd_mt M59 1 (i_ild 1 2) := sd_iload_n dX1_told_1 rfl rfl
theorem r59_2 : Sd gd_mt M59 2 (i_psh (.int 0) 3) := sd_iconst dX1_told_2 (by decide) rfl
theorem r59_3 : Sd gd_mt M59 3 (i_psh (.int 11) 5) := sd_bipush dX1_told_3 (by decide) rfl
theorem r59_5 : Sd gd_mt M59 5 (i_cV 53 3 1 8) := sd_cV2 e53 cal53 q513 q515 (rfl : gd_cl 1 = some _) qs2 dX1_told_5 rfl
theorem r59_8 : Sd gd_mt M59 8 (i_msk [true, true, false, false, false] (i_ald 0 9)) := sd_msk _ (sd_aload_n dX1_told_8 rfl rfl)
theorem r59_9 : Sd gd_mt M59 9 (i_getR 1 2 12) := sd_getR ck1 (by decide) rfl (.inl q358) dX1_told_9 rfl
theorem r59_12 : Sd gd_mt M59 12 (i_cV 145 0 3 15) := sd_cV2 e145 cal145 q345 q346 (rfl : gd_cl 3 = some _) q347 dX1_told_12 rfl
theorem r59_15 : Sd gd_mt M59 15 (i_msk [true, true, false, false, false] (i_ast 2 16)) := sd_msk _ (sd_astore_n dX1_told_15 rfl (by decide) rfl)
theorem r59_16 : Sd gd_mt M59 16 (i_ild 1 17) := sd_iload_n dX1_told_16 rfl rfl
theorem r59_17 : Sd gd_mt M59 17 (i_sw [(0, 76), (1, 84), (2, 92), (3, 97), (4, 102), (5, 107), (6, 112), (7, 155), (8, 160), (9, 165), (10, 170)] 175) := sd_tsw dX1_told_17 (by decide) (by decide) (by decide)
theorem r59_76 : Sd gd_mt M59 76 (i_ald 0 77) := sd_aload_n dX1_told_76 rfl rfl
theorem r59_77 : Sd gd_mt M59 77 (i_getR 1 15 80) := sd_getR ck1 (by decide) rfl (.inl q371) dX1_told_77 rfl
theorem r59_80 : Sd gd_mt M59 80 (i_getI 6 6 83) := sd_getI ck6 (by decide) rfl (.inr ⟨_, q231⟩) dX1_told_80 rfl
theorem r59_83 : Sd gd_mt M59 83 (i_iret) := sd_iret rfl dX1_told_83
theorem r59_84 : Sd gd_mt M59 84 (i_ald 0 85) := sd_aload_n dX1_told_84 rfl rfl
theorem r59_85 : Sd gd_mt M59 85 (i_getR 1 15 88) := sd_getR ck1 (by decide) rfl (.inl q371) dX1_told_85 rfl
theorem r59_88 : Sd gd_mt M59 88 (i_getI 6 7 91) := sd_getI ck6 (by decide) rfl (.inr ⟨_, q238⟩) dX1_told_88 rfl
theorem r59_91 : Sd gd_mt M59 91 (i_iret) := sd_iret rfl dX1_told_91
theorem r59_92 : Sd gd_mt M59 92 (i_ald 2 93) := sd_aload_n dX1_told_92 rfl rfl
theorem r59_93 : Sd gd_mt M59 93 (i_getI 4 10 96) := sd_getI ck4 (by decide) rfl (.inr ⟨_, q274⟩) dX1_told_93 rfl
theorem r59_96 : Sd gd_mt M59 96 (i_iret) := sd_iret rfl dX1_told_96
theorem r59_97 : Sd gd_mt M59 97 (i_ald 2 98) := sd_aload_n dX1_told_97 rfl rfl
theorem r59_98 : Sd gd_mt M59 98 (i_cV 158 0 4 101) := sd_cV2 e158 cal158 q1177 q1071 (rfl : gd_cl 4 = some _) q1072 dX1_told_98 rfl
theorem r59_101 : Sd gd_mt M59 101 (i_msk [false, false, false, false, false] (i_iret)) := sd_msk _ (sd_iret rfl dX1_told_101)
theorem r59_102 : Sd gd_mt M59 102 (i_ald 2 103) := sd_aload_n dX1_told_102 rfl rfl
theorem r59_103 : Sd gd_mt M59 103 (i_getI 4 11 106) := sd_getI ck4 (by decide) rfl (.inr ⟨_, q276⟩) dX1_told_103 rfl
theorem r59_106 : Sd gd_mt M59 106 (i_iret) := sd_iret rfl dX1_told_106
theorem r59_107 : Sd gd_mt M59 107 (i_ald 2 108) := sd_aload_n dX1_told_107 rfl rfl
theorem r59_108 : Sd gd_mt M59 108 (i_cV 149 0 4 111) := sd_cV2 e149 cal149 q1178 q448 (rfl : gd_cl 4 = some _) q449 dX1_told_108 rfl
theorem r59_111 : Sd gd_mt M59 111 (i_msk [false, false, false, false, false] (i_iret)) := sd_msk _ (sd_iret rfl dX1_told_111)
theorem r59_112 : Sd gd_mt M59 112 (i_psh (.int 0) 113) := sd_iconst dX1_told_112 (by decide) rfl
theorem r59_113 : Sd gd_mt M59 113 (i_ist 3 114) := sd_istore_n dX1_told_113 rfl (by decide) rfl
theorem r59_114 : Sd gd_mt M59 114 (i_psh (.int 0) 115) := sd_iconst dX1_told_114 (by decide) rfl
theorem r59_115 : Sd gd_mt M59 115 (i_ist 4 117) := sd_istore dX1_told_115 (by decide) rfl
theorem r59_117 : Sd gd_mt M59 117 (i_msk [true, false, true, true, true] (i_ild 4 119)) := sd_msk _ (sd_iload dX1_told_117 rfl)
theorem r59_119 : Sd gd_mt M59 119 (i_ald 0 120) := sd_aload_n dX1_told_119 rfl rfl
theorem r59_120 : Sd gd_mt M59 120 (i_getR 1 15 123) := sd_getR ck1 (by decide) rfl (.inl q371) dX1_told_120 rfl
theorem r59_123 : Sd gd_mt M59 123 (i_getI 6 7 126) := sd_getI ck6 (by decide) rfl (.inr ⟨_, q238⟩) dX1_told_123 rfl
theorem r59_126 : Sd gd_mt M59 126 (i_icge 153 129) := sd_icge dX1_told_126 (by decide) rfl
theorem r59_129 : Sd gd_mt M59 129 (i_ald 2 130) := sd_aload_n dX1_told_129 rfl rfl
theorem r59_130 : Sd gd_mt M59 130 (i_getR 4 3 133) := sd_getR ck4 (by decide) rfl (.inr ⟨_, q264⟩) dX1_told_130 rfl
theorem r59_133 : Sd gd_mt M59 133 (i_ild 4 135) := sd_iload dX1_told_133 rfl
theorem r59_135 : Sd gd_mt M59 135 (i_aldI 31 136) := sd_iald dX1_told_135 rfl
theorem r59_136 : Sd gd_mt M59 136 (i_psh (.int (-1)) 137) := sd_iconst dX1_told_136 (by decide) rfl
theorem r59_137 : Sd gd_mt M59 137 (i_iceq 147 140) := sd_iceq dX1_told_137 (by decide) rfl
theorem r59_140 : Sd gd_mt M59 140 (i_ild 3 141) := sd_iload_n dX1_told_140 rfl rfl
theorem r59_141 : Sd gd_mt M59 141 (i_psh (.int 1) 142) := sd_iconst dX1_told_141 (by decide) rfl
def cl59_0 : List (Nat × gd_I) := [(0, i_ald 0 1), (1, i_ild 1 2), (2, i_psh (.int 0) 3), (3, i_psh (.int 11) 5), (5, i_cV 53 3 1 8), (8, i_msk [true, true, false, false, false] (i_ald 0 9)), (9, i_getR 1 2 12), (12, i_cV 145 0 3 15), (15, i_msk [true, true, false, false, false] (i_ast 2 16)), (16, i_ild 1 17), (17, i_sw [(0, 76), (1, 84), (2, 92), (3, 97), (4, 102), (5, 107), (6, 112), (7, 155), (8, 160), (9, 165), (10, 170)] 175), (76, i_ald 0 77), (77, i_getR 1 15 80), (80, i_getI 6 6 83), (83, i_iret), (84, i_ald 0 85), (85, i_getR 1 15 88), (88, i_getI 6 7 91), (91, i_iret), (92, i_ald 2 93), (93, i_getI 4 10 96), (96, i_iret), (97, i_ald 2 98), (98, i_cV 158 0 4 101), (101, i_msk [false, false, false, false, false] (i_iret)), (102, i_ald 2 103), (103, i_getI 4 11 106), (106, i_iret), (107, i_ald 2 108), (108, i_cV 149 0 4 111), (111, i_msk [false, false, false, false, false] (i_iret)), (112, i_psh (.int 0) 113), (113, i_ist 3 114), (114, i_psh (.int 0) 115), (115, i_ist 4 117), (117, i_msk [true, false, true, true, true] (i_ild 4 119)), (119, i_ald 0 120), (120, i_getR 1 15 123), (123, i_getI 6 7 126), (126, i_icge 153 129), (129, i_ald 2 130), (130, i_getR 4 3 133), (133, i_ild 4 135), (135, i_aldI 31 136), (136, i_psh (.int (-1)) 137), (137, i_iceq 147 140), (140, i_ild 3 141), (141, i_psh (.int 1) 142)]
theorem cs59_0 : ∀ q ∈ cl59_0, Sd gd_mt M59 q.1 q.2 := gd_ac r59_0 (gd_ac r59_1 (gd_ac r59_2 (gd_ac r59_3 (gd_ac r59_5 (gd_ac r59_8 (gd_ac r59_9 (gd_ac r59_12 (gd_ac r59_15 (gd_ac r59_16 (gd_ac r59_17 (gd_ac r59_76 (gd_ac r59_77 (gd_ac r59_80 (gd_ac r59_83 (gd_ac r59_84 (gd_ac r59_85 (gd_ac r59_88 (gd_ac r59_91 (gd_ac r59_92 (gd_ac r59_93 (gd_ac r59_96 (gd_ac r59_97 (gd_ac r59_98 (gd_ac r59_101 (gd_ac r59_102 (gd_ac r59_103 (gd_ac r59_106 (gd_ac r59_107 (gd_ac r59_108 (gd_ac r59_111 (gd_ac r59_112 (gd_ac r59_113 (gd_ac r59_114 (gd_ac r59_115 (gd_ac r59_117 (gd_ac r59_119 (gd_ac r59_120 (gd_ac r59_123 (gd_ac r59_126 (gd_ac r59_129 (gd_ac r59_130 (gd_ac r59_133 (gd_ac r59_135 (gd_ac r59_136 (gd_ac r59_137 (gd_ac r59_140 (gd_ac r59_141 (gd_an))))))))))))))))))))))))))))))))))))))))))))))))
theorem r59_142 : Sd gd_mt M59 142 (i_ild 4 144) := sd_iload dX1_told_142 rfl
theorem r59_144 : Sd gd_mt M59 144 (i_ishl 145) := sd_ishl dX1_told_144 rfl
theorem r59_145 : Sd gd_mt M59 145 (i_ior 146) := sd_ior dX1_told_145 rfl
theorem r59_146 : Sd gd_mt M59 146 (i_ist 3 147) := sd_istore_n dX1_told_146 rfl (by decide) rfl
theorem r59_147 : Sd gd_mt M59 147 (i_msk [true, false, true, true, true] (i_inc 4 1 150)) := sd_msk _ (sd_iinc dX1_told_147 (by decide) (by decide) rfl)
theorem r59_150 : Sd gd_mt M59 150 (i_goto 117) := sd_goto dX1_told_150 (by decide)
theorem r59_153 : Sd gd_mt M59 153 (i_ild 3 154) := sd_iload_n dX1_told_153 rfl rfl
theorem r59_154 : Sd gd_mt M59 154 (i_iret) := sd_iret rfl dX1_told_154
theorem r59_155 : Sd gd_mt M59 155 (i_ald 2 156) := sd_aload_n dX1_told_155 rfl rfl
theorem r59_156 : Sd gd_mt M59 156 (i_cV 167 0 4 159) := sd_cV2 e167 cal167 q1179 q1180 (rfl : gd_cl 4 = some _) q1181 dX1_told_156 rfl
theorem r59_159 : Sd gd_mt M59 159 (i_msk [false, false, false, false, false] (i_iret)) := sd_msk _ (sd_iret rfl dX1_told_159)
theorem r59_160 : Sd gd_mt M59 160 (i_ald 2 161) := sd_aload_n dX1_told_160 rfl rfl
theorem r59_161 : Sd gd_mt M59 161 (i_cV 154 0 4 164) := sd_cV2 e154 cal154 q1183 q1055 (rfl : gd_cl 4 = some _) q1056 dX1_told_161 rfl
theorem r59_164 : Sd gd_mt M59 164 (i_msk [false, false, false, false, false] (i_iret)) := sd_msk _ (sd_iret rfl dX1_told_164)
theorem r59_165 : Sd gd_mt M59 165 (i_ald 0 166) := sd_aload_n dX1_told_165 rfl rfl
theorem r59_166 : Sd gd_mt M59 166 (i_getI 1 18 169) := sd_getI ck1 (by decide) rfl (.inl q374) dX1_told_166 rfl
theorem r59_169 : Sd gd_mt M59 169 (i_iret) := sd_iret rfl dX1_told_169
theorem r59_170 : Sd gd_mt M59 170 (i_ald 0 171) := sd_aload_n dX1_told_170 rfl rfl
theorem r59_171 : Sd gd_mt M59 171 (i_getI 1 19 174) := sd_getI ck1 (by decide) rfl (.inl q375) dX1_told_171 rfl
theorem r59_174 : Sd gd_mt M59 174 (i_iret) := sd_iret rfl dX1_told_174
theorem r59_175 : Sd gd_mt M59 175 (i_psh (.int 0) 176) := sd_iconst dX1_told_175 (by decide) rfl
theorem r59_176 : Sd gd_mt M59 176 (i_ist 3 177) := sd_istore_n dX1_told_176 rfl (by decide) rfl
theorem r59_177 : Sd gd_mt M59 177 (i_psh (.int 0) 178) := sd_iconst dX1_told_177 (by decide) rfl
theorem r59_178 : Sd gd_mt M59 178 (i_ist 4 180) := sd_istore dX1_told_178 (by decide) rfl
theorem r59_180 : Sd gd_mt M59 180 (i_msk [true, false, true, true, true] (i_ild 4 182)) := sd_msk _ (sd_iload dX1_told_180 rfl)
theorem r59_182 : Sd gd_mt M59 182 (i_ald 0 183) := sd_aload_n dX1_told_182 rfl rfl
theorem r59_183 : Sd gd_mt M59 183 (i_getR 1 15 186) := sd_getR ck1 (by decide) rfl (.inl q371) dX1_told_183 rfl
theorem r59_186 : Sd gd_mt M59 186 (i_getI 6 7 189) := sd_getI ck6 (by decide) rfl (.inr ⟨_, q238⟩) dX1_told_186 rfl
theorem r59_189 : Sd gd_mt M59 189 (i_icge 219 192) := sd_icge dX1_told_189 (by decide) rfl
theorem r59_192 : Sd gd_mt M59 192 (i_ald 2 193) := sd_aload_n dX1_told_192 rfl rfl
theorem r59_193 : Sd gd_mt M59 193 (i_getR 4 1 196) := sd_getR ck4 (by decide) rfl (.inr ⟨_, q260⟩) dX1_told_193 rfl
theorem r59_196 : Sd gd_mt M59 196 (i_ild 4 198) := sd_iload dX1_told_196 rfl
theorem r59_198 : Sd gd_mt M59 198 (i_aldI 31 199) := sd_iald dX1_told_198 rfl
theorem r59_199 : Sd gd_mt M59 199 (i_ald 2 200) := sd_aload_n dX1_told_199 rfl rfl
theorem r59_200 : Sd gd_mt M59 200 (i_cV 158 0 4 203) := sd_cV2 e158 cal158 q1177 q1071 (rfl : gd_cl 4 = some _) q1072 dX1_told_200 rfl
theorem r59_203 : Sd gd_mt M59 203 (i_msk [true, false, true, true, true] (i_icle 213 206)) := sd_msk _ (sd_icle dX1_told_203 (by decide) rfl)
theorem r59_206 : Sd gd_mt M59 206 (i_ild 3 207) := sd_iload_n dX1_told_206 rfl rfl
theorem r59_207 : Sd gd_mt M59 207 (i_psh (.int 1) 208) := sd_iconst dX1_told_207 (by decide) rfl
theorem r59_208 : Sd gd_mt M59 208 (i_ild 4 210) := sd_iload dX1_told_208 rfl
theorem r59_210 : Sd gd_mt M59 210 (i_ishl 211) := sd_ishl dX1_told_210 rfl
theorem r59_211 : Sd gd_mt M59 211 (i_ior 212) := sd_ior dX1_told_211 rfl
theorem r59_212 : Sd gd_mt M59 212 (i_ist 3 213) := sd_istore_n dX1_told_212 rfl (by decide) rfl
theorem r59_213 : Sd gd_mt M59 213 (i_msk [true, false, true, true, true] (i_inc 4 1 216)) := sd_msk _ (sd_iinc dX1_told_213 (by decide) (by decide) rfl)
theorem r59_216 : Sd gd_mt M59 216 (i_goto 180) := sd_goto dX1_told_216 (by decide)
theorem r59_219 : Sd gd_mt M59 219 (i_ild 3 220) := sd_iload_n dX1_told_219 rfl rfl
theorem r59_220 : Sd gd_mt M59 220 (i_iret) := sd_iret rfl dX1_told_220
def cl59_1 : List (Nat × gd_I) := [(142, i_ild 4 144), (144, i_ishl 145), (145, i_ior 146), (146, i_ist 3 147), (147, i_msk [true, false, true, true, true] (i_inc 4 1 150)), (150, i_goto 117), (153, i_ild 3 154), (154, i_iret), (155, i_ald 2 156), (156, i_cV 167 0 4 159), (159, i_msk [false, false, false, false, false] (i_iret)), (160, i_ald 2 161), (161, i_cV 154 0 4 164), (164, i_msk [false, false, false, false, false] (i_iret)), (165, i_ald 0 166), (166, i_getI 1 18 169), (169, i_iret), (170, i_ald 0 171), (171, i_getI 1 19 174), (174, i_iret), (175, i_psh (.int 0) 176), (176, i_ist 3 177), (177, i_psh (.int 0) 178), (178, i_ist 4 180), (180, i_msk [true, false, true, true, true] (i_ild 4 182)), (182, i_ald 0 183), (183, i_getR 1 15 186), (186, i_getI 6 7 189), (189, i_icge 219 192), (192, i_ald 2 193), (193, i_getR 4 1 196), (196, i_ild 4 198), (198, i_aldI 31 199), (199, i_ald 2 200), (200, i_cV 158 0 4 203), (203, i_msk [true, false, true, true, true] (i_icle 213 206)), (206, i_ild 3 207), (207, i_psh (.int 1) 208), (208, i_ild 4 210), (210, i_ishl 211), (211, i_ior 212), (212, i_ist 3 213), (213, i_msk [true, false, true, true, true] (i_inc 4 1 216)), (216, i_goto 180), (219, i_ild 3 220), (220, i_iret)]
theorem cs59_1 : ∀ q ∈ cl59_1, Sd gd_mt M59 q.1 q.2 := gd_ac r59_142 (gd_ac r59_144 (gd_ac r59_145 (gd_ac r59_146 (gd_ac r59_147 (gd_ac r59_150 (gd_ac r59_153 (gd_ac r59_154 (gd_ac r59_155 (gd_ac r59_156 (gd_ac r59_159 (gd_ac r59_160 (gd_ac r59_161 (gd_ac r59_164 (gd_ac r59_165 (gd_ac r59_166 (gd_ac r59_169 (gd_ac r59_170 (gd_ac r59_171 (gd_ac r59_174 (gd_ac r59_175 (gd_ac r59_176 (gd_ac r59_177 (gd_ac r59_178 (gd_ac r59_180 (gd_ac r59_182 (gd_ac r59_183 (gd_ac r59_186 (gd_ac r59_189 (gd_ac r59_192 (gd_ac r59_193 (gd_ac r59_196 (gd_ac r59_198 (gd_ac r59_199 (gd_ac r59_200 (gd_ac r59_203 (gd_ac r59_206 (gd_ac r59_207 (gd_ac r59_208 (gd_ac r59_210 (gd_ac r59_211 (gd_ac r59_212 (gd_ac r59_213 (gd_ac r59_216 (gd_ac r59_219 (gd_ac r59_220 (gd_an))))))))))))))))))))))))))))))))))))))))))))))
def cd59 (pc : Nat) : gd_I := if pc < 142 then lkI cl59_0 pc else lkI cl59_1 pc
theorem cg59 : ∀ pc, Sd gd_mt M59 pc (cd59 pc) := by
  intro pc
  unfold cd59
  by_cases h0 : pc < 142
  · rw [if_pos h0]; exact sd_lk cs59_0 pc
  rw [if_neg h0]
  exact sd_lk cs59_1 pc
theorem r60_0 : Sd gd_mt M60 0 (i_ald 0 1) := sd_aload_n dX1_board_0 rfl rfl
theorem r60_1 : Sd gd_mt M60 1 (i_ild 1 2) := sd_iload_n dX1_board_1 rfl rfl
theorem r60_2 : Sd gd_mt M60 2 (i_cV 61 1 1 5) := sd_cV2 e61 cal61 q1192 q1194 (rfl : gd_cl 1 = some _) qs16 dX1_board_2 rfl
theorem r60_5 : Sd gd_mt M60 5 (i_msk [true, true, true, false, false, false] (i_ald 0 6)) := sd_msk _ (sd_aload_n dX1_board_5 rfl rfl)
theorem r60_6 : Sd gd_mt M60 6 (i_ild 2 7) := sd_iload_n dX1_board_6 rfl rfl
theorem r60_7 : Sd gd_mt M60 7 (i_psh (.int 0) 8) := sd_iconst dX1_board_7 (by decide) rfl
theorem r60_8 : Sd gd_mt M60 8 (i_psh (.int 4) 9) := sd_iconst dX1_board_8 (by decide) rfl
theorem r60_9 : Sd gd_mt M60 9 (i_cV 53 3 1 12) := sd_cV2 e53 cal53 q513 q515 (rfl : gd_cl 1 = some _) qs2 dX1_board_9 rfl
theorem r60_12 : Sd gd_mt M60 12 (i_msk [true, true, true, false, false, false] (i_ald 0 13)) := sd_msk _ (sd_aload_n dX1_board_12 rfl rfl)
theorem r60_13 : Sd gd_mt M60 13 (i_getR 1 2 16) := sd_getR ck1 (by decide) rfl (.inl q358) dX1_board_13 rfl
theorem r60_16 : Sd gd_mt M60 16 (i_cV 145 0 3 19) := sd_cV2 e145 cal145 q345 q346 (rfl : gd_cl 3 = some _) q347 dX1_board_16 rfl
theorem r60_19 : Sd gd_mt M60 19 (i_msk [true, true, true, false, false, false] (i_ast 3 20)) := sd_msk _ (sd_astore_n dX1_board_19 rfl (by decide) rfl)
theorem r60_20 : Sd gd_mt M60 20 (i_ild 2 21) := sd_iload_n dX1_board_20 rfl rfl
theorem r60_21 : Sd gd_mt M60 21 (i_sw [(0, 52), (1, 62), (2, 72), (3, 79)] 85) := sd_tsw dX1_board_21 (by decide) (by decide) (by decide)
theorem r60_52 : Sd gd_mt M60 52 (i_ald 0 53) := sd_aload_n dX1_board_52 rfl rfl
theorem r60_53 : Sd gd_mt M60 53 (i_getR 1 15 56) := sd_getR ck1 (by decide) rfl (.inl q371) dX1_board_53 rfl
theorem r60_56 : Sd gd_mt M60 56 (i_getR 6 0 59) := sd_getR ck6 (by decide) rfl (.inr ⟨_, q211⟩) dX1_board_56 rfl
theorem r60_59 : Sd gd_mt M60 59 (i_ild 1 60) := sd_iload_n dX1_board_59 rfl rfl
theorem r60_60 : Sd gd_mt M60 60 (i_aldI 31 61) := sd_iald dX1_board_60 rfl
theorem r60_61 : Sd gd_mt M60 61 (i_iret) := sd_iret rfl dX1_board_61
theorem r60_62 : Sd gd_mt M60 62 (i_ald 0 63) := sd_aload_n dX1_board_62 rfl rfl
theorem r60_63 : Sd gd_mt M60 63 (i_getR 1 15 66) := sd_getR ck1 (by decide) rfl (.inl q371) dX1_board_63 rfl
theorem r60_66 : Sd gd_mt M60 66 (i_getR 6 1 69) := sd_getR ck6 (by decide) rfl (.inr ⟨_, q215⟩) dX1_board_66 rfl
theorem r60_69 : Sd gd_mt M60 69 (i_ild 1 70) := sd_iload_n dX1_board_69 rfl rfl
theorem r60_70 : Sd gd_mt M60 70 (i_aldI 31 71) := sd_iald dX1_board_70 rfl
theorem r60_71 : Sd gd_mt M60 71 (i_iret) := sd_iret rfl dX1_board_71
theorem r60_72 : Sd gd_mt M60 72 (i_ald 3 73) := sd_aload_n dX1_board_72 rfl rfl
theorem r60_73 : Sd gd_mt M60 73 (i_getR 4 0 76) := sd_getR ck4 (by decide) rfl (.inr ⟨_, q257⟩) dX1_board_73 rfl
theorem r60_76 : Sd gd_mt M60 76 (i_ild 1 77) := sd_iload_n dX1_board_76 rfl rfl
theorem r60_77 : Sd gd_mt M60 77 (i_aldI 31 78) := sd_iald dX1_board_77 rfl
theorem r60_78 : Sd gd_mt M60 78 (i_iret) := sd_iret rfl dX1_board_78
theorem r60_79 : Sd gd_mt M60 79 (i_ald 3 80) := sd_aload_n dX1_board_79 rfl rfl
theorem r60_80 : Sd gd_mt M60 80 (i_ild 1 81) := sd_iload_n dX1_board_80 rfl rfl
theorem r60_81 : Sd gd_mt M60 81 (i_cV 157 1 4 84) := sd_cV2 e157 cal157 q1215 q1067 (rfl : gd_cl 4 = some _) q1068 dX1_board_81 rfl
theorem r60_84 : Sd gd_mt M60 84 (i_msk [false, false, false, false, false, false] (i_iret)) := sd_msk _ (sd_iret rfl dX1_board_84)
theorem r60_85 : Sd gd_mt M60 85 (i_psh (.int 0) 86) := sd_iconst dX1_board_85 (by decide) rfl
theorem r60_86 : Sd gd_mt M60 86 (i_ist 4 88) := sd_istore dX1_board_86 (by decide) rfl
theorem r60_88 : Sd gd_mt M60 88 (i_psh (.int 0) 89) := sd_iconst dX1_board_88 (by decide) rfl
theorem r60_89 : Sd gd_mt M60 89 (i_ist 5 91) := sd_istore dX1_board_89 (by decide) rfl
theorem r60_91 : Sd gd_mt M60 91 (i_msk [true, true, false, true, true, true] (i_ild 5 93)) := sd_msk _ (sd_iload dX1_board_91 rfl)
theorem r60_93 : Sd gd_mt M60 93 (i_ald 0 94) := sd_aload_n dX1_board_93 rfl rfl
theorem r60_94 : Sd gd_mt M60 94 (i_getR 1 15 97) := sd_getR ck1 (by decide) rfl (.inl q371) dX1_board_94 rfl
theorem r60_97 : Sd gd_mt M60 97 (i_getI 6 7 100) := sd_getI ck6 (by decide) rfl (.inr ⟨_, q238⟩) dX1_board_97 rfl
theorem r60_100 : Sd gd_mt M60 100 (i_icge 129 103) := sd_icge dX1_board_100 (by decide) rfl
theorem r60_103 : Sd gd_mt M60 103 (i_ald 3 104) := sd_aload_n dX1_board_103 rfl rfl
theorem r60_104 : Sd gd_mt M60 104 (i_getR 4 3 107) := sd_getR ck4 (by decide) rfl (.inr ⟨_, q264⟩) dX1_board_104 rfl
theorem r60_107 : Sd gd_mt M60 107 (i_ild 5 109) := sd_iload dX1_board_107 rfl
theorem r60_109 : Sd gd_mt M60 109 (i_aldI 31 110) := sd_iald dX1_board_109 rfl
def cl60_0 : List (Nat × gd_I) := [(0, i_ald 0 1), (1, i_ild 1 2), (2, i_cV 61 1 1 5), (5, i_msk [true, true, true, false, false, false] (i_ald 0 6)), (6, i_ild 2 7), (7, i_psh (.int 0) 8), (8, i_psh (.int 4) 9), (9, i_cV 53 3 1 12), (12, i_msk [true, true, true, false, false, false] (i_ald 0 13)), (13, i_getR 1 2 16), (16, i_cV 145 0 3 19), (19, i_msk [true, true, true, false, false, false] (i_ast 3 20)), (20, i_ild 2 21), (21, i_sw [(0, 52), (1, 62), (2, 72), (3, 79)] 85), (52, i_ald 0 53), (53, i_getR 1 15 56), (56, i_getR 6 0 59), (59, i_ild 1 60), (60, i_aldI 31 61), (61, i_iret), (62, i_ald 0 63), (63, i_getR 1 15 66), (66, i_getR 6 1 69), (69, i_ild 1 70), (70, i_aldI 31 71), (71, i_iret), (72, i_ald 3 73), (73, i_getR 4 0 76), (76, i_ild 1 77), (77, i_aldI 31 78), (78, i_iret), (79, i_ald 3 80), (80, i_ild 1 81), (81, i_cV 157 1 4 84), (84, i_msk [false, false, false, false, false, false] (i_iret)), (85, i_psh (.int 0) 86), (86, i_ist 4 88), (88, i_psh (.int 0) 89), (89, i_ist 5 91), (91, i_msk [true, true, false, true, true, true] (i_ild 5 93)), (93, i_ald 0 94), (94, i_getR 1 15 97), (97, i_getI 6 7 100), (100, i_icge 129 103), (103, i_ald 3 104), (104, i_getR 4 3 107), (107, i_ild 5 109), (109, i_aldI 31 110)]
theorem cs60_0 : ∀ q ∈ cl60_0, Sd gd_mt M60 q.1 q.2 := gd_ac r60_0 (gd_ac r60_1 (gd_ac r60_2 (gd_ac r60_5 (gd_ac r60_6 (gd_ac r60_7 (gd_ac r60_8 (gd_ac r60_9 (gd_ac r60_12 (gd_ac r60_13 (gd_ac r60_16 (gd_ac r60_19 (gd_ac r60_20 (gd_ac r60_21 (gd_ac r60_52 (gd_ac r60_53 (gd_ac r60_56 (gd_ac r60_59 (gd_ac r60_60 (gd_ac r60_61 (gd_ac r60_62 (gd_ac r60_63 (gd_ac r60_66 (gd_ac r60_69 (gd_ac r60_70 (gd_ac r60_71 (gd_ac r60_72 (gd_ac r60_73 (gd_ac r60_76 (gd_ac r60_77 (gd_ac r60_78 (gd_ac r60_79 (gd_ac r60_80 (gd_ac r60_81 (gd_ac r60_84 (gd_ac r60_85 (gd_ac r60_86 (gd_ac r60_88 (gd_ac r60_89 (gd_ac r60_91 (gd_ac r60_93 (gd_ac r60_94 (gd_ac r60_97 (gd_ac r60_100 (gd_ac r60_103 (gd_ac r60_104 (gd_ac r60_107 (gd_ac r60_109 (gd_an))))))))))))))))))))))))))))))))))))))))))))))))
theorem r60_110 : Sd gd_mt M60 110 (i_ild 1 111) := sd_iload_n dX1_board_110 rfl rfl
theorem r60_111 : Sd gd_mt M60 111 (i_icne 123 114) := sd_icne dX1_board_111 (by decide) rfl
theorem r60_114 : Sd gd_mt M60 114 (i_ild 4 116) := sd_iload dX1_board_114 rfl
theorem r60_116 : Sd gd_mt M60 116 (i_psh (.int 1) 117) := sd_iconst dX1_board_116 (by decide) rfl
theorem r60_117 : Sd gd_mt M60 117 (i_ild 5 119) := sd_iload dX1_board_117 rfl
theorem r60_119 : Sd gd_mt M60 119 (i_ishl 120) := sd_ishl dX1_board_119 rfl
theorem r60_120 : Sd gd_mt M60 120 (i_ior 121) := sd_ior dX1_board_120 rfl
theorem r60_121 : Sd gd_mt M60 121 (i_ist 4 123) := sd_istore dX1_board_121 (by decide) rfl
theorem r60_123 : Sd gd_mt M60 123 (i_msk [true, true, false, true, true, true] (i_inc 5 1 126)) := sd_msk _ (sd_iinc dX1_board_123 (by decide) (by decide) rfl)
theorem r60_126 : Sd gd_mt M60 126 (i_goto 91) := sd_goto dX1_board_126 (by decide)
theorem r60_129 : Sd gd_mt M60 129 (i_ild 4 131) := sd_iload dX1_board_129 rfl
theorem r60_131 : Sd gd_mt M60 131 (i_iret) := sd_iret rfl dX1_board_131
def cl60_1 : List (Nat × gd_I) := [(110, i_ild 1 111), (111, i_icne 123 114), (114, i_ild 4 116), (116, i_psh (.int 1) 117), (117, i_ild 5 119), (119, i_ishl 120), (120, i_ior 121), (121, i_ist 4 123), (123, i_msk [true, true, false, true, true, true] (i_inc 5 1 126)), (126, i_goto 91), (129, i_ild 4 131), (131, i_iret)]
theorem cs60_1 : ∀ q ∈ cl60_1, Sd gd_mt M60 q.1 q.2 := gd_ac r60_110 (gd_ac r60_111 (gd_ac r60_114 (gd_ac r60_116 (gd_ac r60_117 (gd_ac r60_119 (gd_ac r60_120 (gd_ac r60_121 (gd_ac r60_123 (gd_ac r60_126 (gd_ac r60_129 (gd_ac r60_131 (gd_an))))))))))))
def cd60 (pc : Nat) : gd_I := if pc < 110 then lkI cl60_0 pc else lkI cl60_1 pc
theorem cg60 : ∀ pc, Sd gd_mt M60 pc (cd60 pc) := by
  intro pc
  unfold cd60
  by_cases h0 : pc < 110
  · rw [if_pos h0]; exact sd_lk cs60_0 pc
  rw [if_neg h0]
  exact sd_lk cs60_1 pc
theorem r61_0 : Sd gd_mt M61 0 (i_ald 0 1) := sd_aload_n dX1_boardOf_0 rfl rfl
theorem r61_1 : Sd gd_mt M61 1 (i_ild 1 2) := sd_iload_n dX1_boardOf_1 rfl rfl
theorem r61_2 : Sd gd_mt M61 2 (i_ald 0 3) := sd_aload_n dX1_boardOf_2 rfl rfl
theorem r61_3 : Sd gd_mt M61 3 (i_getR 1 15 6) := sd_getR ck1 (by decide) rfl (.inl q371) dX1_boardOf_3 rfl
theorem r61_6 : Sd gd_mt M61 6 (i_getI 6 6 9) := sd_getI ck6 (by decide) rfl (.inr ⟨_, q231⟩) dX1_boardOf_6 rfl
theorem r61_9 : Sd gd_mt M61 9 (i_cV 62 2 1 12) := sd_cV2 e62 cal62 q1196 q1198 (rfl : gd_cl 1 = some _) qs17 dX1_boardOf_9 rfl
theorem r61_12 : Sd gd_mt M61 12 (i_msk [false, false] (i_ret)) := sd_msk _ (sd_ret rfl dX1_boardOf_12)
def cl61_0 : List (Nat × gd_I) := [(0, i_ald 0 1), (1, i_ild 1 2), (2, i_ald 0 3), (3, i_getR 1 15 6), (6, i_getI 6 6 9), (9, i_cV 62 2 1 12), (12, i_msk [false, false] (i_ret))]
theorem cs61_0 : ∀ q ∈ cl61_0, Sd gd_mt M61 q.1 q.2 := gd_ac r61_0 (gd_ac r61_1 (gd_ac r61_2 (gd_ac r61_3 (gd_ac r61_6 (gd_ac r61_9 (gd_ac r61_12 (gd_an)))))))
def cd61 (pc : Nat) : gd_I := lkI cl61_0 pc
theorem cg61 : ∀ pc, Sd gd_mt M61 pc (cd61 pc) := sd_lk cs61_0
theorem r62_0 : Sd gd_mt M62 0 (i_ild 1 1) := sd_iload_n dX1_oneOf_0 rfl rfl
theorem r62_1 : Sd gd_mt M62 1 (i_iflt 10 4) := sd_iflt dX1_oneOf_1 (by decide) rfl
theorem r62_4 : Sd gd_mt M62 4 (i_ild 1 5) := sd_iload_n dX1_oneOf_4 rfl rfl
theorem r62_5 : Sd gd_mt M62 5 (i_ild 2 6) := sd_iload_n dX1_oneOf_5 rfl rfl
theorem r62_6 : Sd gd_mt M62 6 (i_icge 10 9) := sd_icge dX1_oneOf_6 (by decide) rfl
theorem r62_9 : Sd gd_mt M62 9 (i_ret) := sd_ret rfl dX1_oneOf_9
theorem r62_10 : Sd gd_mt M62 10 (i_msk [true, false, false] (i_ald 0 11)) := sd_msk _ (sd_aload_n dX1_oneOf_10 rfl rfl)
theorem r62_11 : Sd gd_mt M62 11 (i_getR 1 7 14) := sd_getR ck1 (by decide) rfl (.inl q363) dX1_oneOf_11 rfl
theorem r62_14 : Sd gd_mt M62 14 (i_psh (.int 0) 15) := sd_iconst dX1_oneOf_14 (by decide) rfl
theorem r62_15 : Sd gd_mt M62 15 (i_dup2 16) := sd_dup2 dX1_oneOf_15 rfl
theorem r62_16 : Sd gd_mt M62 16 (i_aldI 31 17) := sd_iald dX1_oneOf_16 rfl
theorem r62_17 : Sd gd_mt M62 17 (i_psh (.int 1) 18) := sd_iconst dX1_oneOf_17 (by decide) rfl
theorem r62_18 : Sd gd_mt M62 18 (i_iadd 19) := sd_iadd dX1_oneOf_18 rfl
theorem r62_19 : Sd gd_mt M62 19 (i_astI 20) := sd_astI dX1_oneOf_19 rfl
theorem r62_20 : Sd gd_mt M62 20 (i_mk0 24 27) := sd_mk0 (t := 24) (names := gd_nms) rfl rfl gd_fit24 gd_fitn (by decide) q1200 q118 gd_at0_24 (List.all_eq_true.mp (by decide +kernel)) dX1_oneOf_20 dX1_oneOf_23 dX1_oneOf_24 rfl
theorem r62_27 : Sd gd_mt M62 27 (i_thr) := sd_thr dX1_oneOf_27
def cl62_0 : List (Nat × gd_I) := [(0, i_ild 1 1), (1, i_iflt 10 4), (4, i_ild 1 5), (5, i_ild 2 6), (6, i_icge 10 9), (9, i_ret), (10, i_msk [true, false, false] (i_ald 0 11)), (11, i_getR 1 7 14), (14, i_psh (.int 0) 15), (15, i_dup2 16), (16, i_aldI 31 17), (17, i_psh (.int 1) 18), (18, i_iadd 19), (19, i_astI 20), (20, i_mk0 24 27), (23, i_stk), (24, i_stk), (27, i_thr)]
theorem cs62_0 : ∀ q ∈ cl62_0, Sd gd_mt M62 q.1 q.2 := gd_ac r62_0 (gd_ac r62_1 (gd_ac r62_4 (gd_ac r62_5 (gd_ac r62_6 (gd_ac r62_9 (gd_ac r62_10 (gd_ac r62_11 (gd_ac r62_14 (gd_ac r62_15 (gd_ac r62_16 (gd_ac r62_17 (gd_ac r62_18 (gd_ac r62_19 (gd_ac r62_20 (gd_ac sd_stk (gd_ac sd_stk (gd_ac r62_27 (gd_an))))))))))))))))))
def cd62 (pc : Nat) : gd_I := lkI cl62_0 pc
theorem cg62 : ∀ pc, Sd gd_mt M62 pc (cd62 pc) := sd_lk cs62_0
theorem r63_0 : Sd gd_mt M63 0 (i_ald 0 1) := sd_aload_n dX1_boy_0 rfl rfl
theorem r63_1 : Sd gd_mt M63 1 (i_ild 1 2) := sd_iload_n dX1_boy_1 rfl rfl
theorem r63_2 : Sd gd_mt M63 2 (i_cV 64 1 1 5) := sd_cV2 e64 cal64 q1223 q1225 (rfl : gd_cl 1 = some _) qs18 dX1_boy_2 rfl
theorem r63_5 : Sd gd_mt M63 5 (i_msk [true, true, true, false] (i_ald 0 6)) := sd_msk _ (sd_aload_n dX1_boy_5 rfl rfl)
theorem r63_6 : Sd gd_mt M63 6 (i_ild 2 7) := sd_iload_n dX1_boy_6 rfl rfl
theorem r63_7 : Sd gd_mt M63 7 (i_psh (.int 0) 8) := sd_iconst dX1_boy_7 (by decide) rfl
theorem r63_8 : Sd gd_mt M63 8 (i_psh (.int 7) 10) := sd_bipush dX1_boy_8 (by decide) rfl
theorem r63_10 : Sd gd_mt M63 10 (i_cV 53 3 1 13) := sd_cV2 e53 cal53 q513 q515 (rfl : gd_cl 1 = some _) qs2 dX1_boy_10 rfl
theorem r63_13 : Sd gd_mt M63 13 (i_msk [true, true, true, false] (i_ald 0 14)) := sd_msk _ (sd_aload_n dX1_boy_13 rfl rfl)
theorem r63_14 : Sd gd_mt M63 14 (i_getR 1 2 17) := sd_getR ck1 (by decide) rfl (.inl q358) dX1_boy_14 rfl
theorem r63_17 : Sd gd_mt M63 17 (i_cV 145 0 3 20) := sd_cV2 e145 cal145 q345 q346 (rfl : gd_cl 3 = some _) q347 dX1_boy_17 rfl
theorem r63_20 : Sd gd_mt M63 20 (i_msk [true, true, true, false] (i_ast 3 21)) := sd_msk _ (sd_astore_n dX1_boy_20 rfl (by decide) rfl)
theorem r63_21 : Sd gd_mt M63 21 (i_ild 2 22) := sd_iload_n dX1_boy_21 rfl rfl
theorem r63_22 : Sd gd_mt M63 22 (i_sw [(0, 64), (1, 71), (2, 78), (3, 85), (4, 91), (5, 97), (6, 111)] 121) := sd_tsw dX1_boy_22 (by decide) (by decide) (by decide)
theorem r63_64 : Sd gd_mt M63 64 (i_ald 3 65) := sd_aload_n dX1_boy_64 rfl rfl
theorem r63_65 : Sd gd_mt M63 65 (i_getR 4 1 68) := sd_getR ck4 (by decide) rfl (.inr ⟨_, q260⟩) dX1_boy_65 rfl
theorem r63_68 : Sd gd_mt M63 68 (i_ild 1 69) := sd_iload_n dX1_boy_68 rfl rfl
theorem r63_69 : Sd gd_mt M63 69 (i_aldI 31 70) := sd_iald dX1_boy_69 rfl
theorem r63_70 : Sd gd_mt M63 70 (i_iret) := sd_iret rfl dX1_boy_70
theorem r63_71 : Sd gd_mt M63 71 (i_ald 3 72) := sd_aload_n dX1_boy_71 rfl rfl
theorem r63_72 : Sd gd_mt M63 72 (i_getR 4 2 75) := sd_getR ck4 (by decide) rfl (.inr ⟨_, q262⟩) dX1_boy_72 rfl
theorem r63_75 : Sd gd_mt M63 75 (i_ild 1 76) := sd_iload_n dX1_boy_75 rfl rfl
theorem r63_76 : Sd gd_mt M63 76 (i_aldI 31 77) := sd_iald dX1_boy_76 rfl
theorem r63_77 : Sd gd_mt M63 77 (i_iret) := sd_iret rfl dX1_boy_77
theorem r63_78 : Sd gd_mt M63 78 (i_ald 3 79) := sd_aload_n dX1_boy_78 rfl rfl
theorem r63_79 : Sd gd_mt M63 79 (i_getR 4 3 82) := sd_getR ck4 (by decide) rfl (.inr ⟨_, q264⟩) dX1_boy_79 rfl
theorem r63_82 : Sd gd_mt M63 82 (i_ild 1 83) := sd_iload_n dX1_boy_82 rfl rfl
theorem r63_83 : Sd gd_mt M63 83 (i_aldI 31 84) := sd_iald dX1_boy_83 rfl
theorem r63_84 : Sd gd_mt M63 84 (i_iret) := sd_iret rfl dX1_boy_84
theorem r63_85 : Sd gd_mt M63 85 (i_ald 3 86) := sd_aload_n dX1_boy_85 rfl rfl
theorem r63_86 : Sd gd_mt M63 86 (i_ild 1 87) := sd_iload_n dX1_boy_86 rfl rfl
theorem r63_87 : Sd gd_mt M63 87 (i_cV 156 1 4 90) := sd_cV2 e156 cal156 q1227 q1063 (rfl : gd_cl 4 = some _) q1064 dX1_boy_87 rfl
theorem r63_90 : Sd gd_mt M63 90 (i_msk [false, false, false, false] (i_iret)) := sd_msk _ (sd_iret rfl dX1_boy_90)
theorem r63_91 : Sd gd_mt M63 91 (i_ald 3 92) := sd_aload_n dX1_boy_91 rfl rfl
theorem r63_92 : Sd gd_mt M63 92 (i_ild 1 93) := sd_iload_n dX1_boy_92 rfl rfl
theorem r63_93 : Sd gd_mt M63 93 (i_cV 155 1 4 96) := sd_cV2 e155 cal155 q1228 q1059 (rfl : gd_cl 4 = some _) q1060 dX1_boy_93 rfl
theorem r63_96 : Sd gd_mt M63 96 (i_msk [false, false, false, false] (i_iret)) := sd_msk _ (sd_iret rfl dX1_boy_96)
theorem r63_97 : Sd gd_mt M63 97 (i_ald 3 98) := sd_aload_n dX1_boy_97 rfl rfl
theorem r63_98 : Sd gd_mt M63 98 (i_ild 1 99) := sd_iload_n dX1_boy_98 rfl rfl
theorem r63_99 : Sd gd_mt M63 99 (i_cV 161 1 4 102) := sd_cV2 e161 cal161 q1229 q1128 (rfl : gd_cl 4 = some _) q1129 dX1_boy_99 rfl
theorem r63_102 : Sd gd_mt M63 102 (i_msk [false, false, false, false] (i_ifeq 109 105)) := sd_msk _ (sd_ifeq dX1_boy_102 (by decide) rfl)
theorem r63_105 : Sd gd_mt M63 105 (i_psh (.int 1) 106) := sd_iconst dX1_boy_105 (by decide) rfl
theorem r63_106 : Sd gd_mt M63 106 (i_goto 110) := sd_goto dX1_boy_106 (by decide)
theorem r63_109 : Sd gd_mt M63 109 (i_psh (.int 0) 110) := sd_iconst dX1_boy_109 (by decide) rfl
theorem r63_110 : Sd gd_mt M63 110 (i_msk [false, false, false, false] (i_iret)) := sd_msk _ (sd_iret rfl dX1_boy_110)
theorem r63_111 : Sd gd_mt M63 111 (i_ald 0 112) := sd_aload_n dX1_boy_111 rfl rfl
theorem r63_112 : Sd gd_mt M63 112 (i_getR 1 15 115) := sd_getR ck1 (by decide) rfl (.inl q371) dX1_boy_112 rfl
theorem r63_115 : Sd gd_mt M63 115 (i_getR 6 4 118) := sd_getR ck6 (by decide) rfl (.inr ⟨_, q225⟩) dX1_boy_115 rfl
def cl63_0 : List (Nat × gd_I) := [(0, i_ald 0 1), (1, i_ild 1 2), (2, i_cV 64 1 1 5), (5, i_msk [true, true, true, false] (i_ald 0 6)), (6, i_ild 2 7), (7, i_psh (.int 0) 8), (8, i_psh (.int 7) 10), (10, i_cV 53 3 1 13), (13, i_msk [true, true, true, false] (i_ald 0 14)), (14, i_getR 1 2 17), (17, i_cV 145 0 3 20), (20, i_msk [true, true, true, false] (i_ast 3 21)), (21, i_ild 2 22), (22, i_sw [(0, 64), (1, 71), (2, 78), (3, 85), (4, 91), (5, 97), (6, 111)] 121), (64, i_ald 3 65), (65, i_getR 4 1 68), (68, i_ild 1 69), (69, i_aldI 31 70), (70, i_iret), (71, i_ald 3 72), (72, i_getR 4 2 75), (75, i_ild 1 76), (76, i_aldI 31 77), (77, i_iret), (78, i_ald 3 79), (79, i_getR 4 3 82), (82, i_ild 1 83), (83, i_aldI 31 84), (84, i_iret), (85, i_ald 3 86), (86, i_ild 1 87), (87, i_cV 156 1 4 90), (90, i_msk [false, false, false, false] (i_iret)), (91, i_ald 3 92), (92, i_ild 1 93), (93, i_cV 155 1 4 96), (96, i_msk [false, false, false, false] (i_iret)), (97, i_ald 3 98), (98, i_ild 1 99), (99, i_cV 161 1 4 102), (102, i_msk [false, false, false, false] (i_ifeq 109 105)), (105, i_psh (.int 1) 106), (106, i_goto 110), (109, i_psh (.int 0) 110), (110, i_msk [false, false, false, false] (i_iret)), (111, i_ald 0 112), (112, i_getR 1 15 115), (115, i_getR 6 4 118)]
theorem cs63_0 : ∀ q ∈ cl63_0, Sd gd_mt M63 q.1 q.2 := gd_ac r63_0 (gd_ac r63_1 (gd_ac r63_2 (gd_ac r63_5 (gd_ac r63_6 (gd_ac r63_7 (gd_ac r63_8 (gd_ac r63_10 (gd_ac r63_13 (gd_ac r63_14 (gd_ac r63_17 (gd_ac r63_20 (gd_ac r63_21 (gd_ac r63_22 (gd_ac r63_64 (gd_ac r63_65 (gd_ac r63_68 (gd_ac r63_69 (gd_ac r63_70 (gd_ac r63_71 (gd_ac r63_72 (gd_ac r63_75 (gd_ac r63_76 (gd_ac r63_77 (gd_ac r63_78 (gd_ac r63_79 (gd_ac r63_82 (gd_ac r63_83 (gd_ac r63_84 (gd_ac r63_85 (gd_ac r63_86 (gd_ac r63_87 (gd_ac r63_90 (gd_ac r63_91 (gd_ac r63_92 (gd_ac r63_93 (gd_ac r63_96 (gd_ac r63_97 (gd_ac r63_98 (gd_ac r63_99 (gd_ac r63_102 (gd_ac r63_105 (gd_ac r63_106 (gd_ac r63_109 (gd_ac r63_110 (gd_ac r63_111 (gd_ac r63_112 (gd_ac r63_115 (gd_an))))))))))))))))))))))))))))))))))))))))))))))))
theorem r63_118 : Sd gd_mt M63 118 (i_ild 1 119) := sd_iload_n dX1_boy_118 rfl rfl
theorem r63_119 : Sd gd_mt M63 119 (i_aldI 31 120) := sd_iald dX1_boy_119 rfl
theorem r63_120 : Sd gd_mt M63 120 (i_iret) := sd_iret rfl dX1_boy_120
theorem r63_121 : Sd gd_mt M63 121 (i_ald 3 122) := sd_aload_n dX1_boy_121 rfl rfl
theorem r63_122 : Sd gd_mt M63 122 (i_getR 4 5 125) := sd_getR ck4 (by decide) rfl (.inr ⟨_, q267⟩) dX1_boy_122 rfl
theorem r63_125 : Sd gd_mt M63 125 (i_ild 1 126) := sd_iload_n dX1_boy_125 rfl rfl
theorem r63_126 : Sd gd_mt M63 126 (i_aldI 31 127) := sd_iald dX1_boy_126 rfl
theorem r63_127 : Sd gd_mt M63 127 (i_iret) := sd_iret rfl dX1_boy_127
def cl63_1 : List (Nat × gd_I) := [(118, i_ild 1 119), (119, i_aldI 31 120), (120, i_iret), (121, i_ald 3 122), (122, i_getR 4 5 125), (125, i_ild 1 126), (126, i_aldI 31 127), (127, i_iret)]
theorem cs63_1 : ∀ q ∈ cl63_1, Sd gd_mt M63 q.1 q.2 := gd_ac r63_118 (gd_ac r63_119 (gd_ac r63_120 (gd_ac r63_121 (gd_ac r63_122 (gd_ac r63_125 (gd_ac r63_126 (gd_ac r63_127 (gd_an))))))))
def cd63 (pc : Nat) : gd_I := if pc < 118 then lkI cl63_0 pc else lkI cl63_1 pc
theorem cg63 : ∀ pc, Sd gd_mt M63 pc (cd63 pc) := by
  intro pc
  unfold cd63
  by_cases h0 : pc < 118
  · rw [if_pos h0]; exact sd_lk cs63_0 pc
  rw [if_neg h0]
  exact sd_lk cs63_1 pc
theorem r64_0 : Sd gd_mt M64 0 (i_ald 0 1) := sd_aload_n dX1_boyOf_0 rfl rfl
theorem r64_1 : Sd gd_mt M64 1 (i_ild 1 2) := sd_iload_n dX1_boyOf_1 rfl rfl
theorem r64_2 : Sd gd_mt M64 2 (i_ald 0 3) := sd_aload_n dX1_boyOf_2 rfl rfl
theorem r64_3 : Sd gd_mt M64 3 (i_getR 1 15 6) := sd_getR ck1 (by decide) rfl (.inl q371) dX1_boyOf_3 rfl
theorem r64_6 : Sd gd_mt M64 6 (i_getI 6 7 9) := sd_getI ck6 (by decide) rfl (.inr ⟨_, q238⟩) dX1_boyOf_6 rfl
theorem r64_9 : Sd gd_mt M64 9 (i_cV 62 2 1 12) := sd_cV2 e62 cal62 q1196 q1198 (rfl : gd_cl 1 = some _) qs17 dX1_boyOf_9 rfl
theorem r64_12 : Sd gd_mt M64 12 (i_msk [false, false] (i_ret)) := sd_msk _ (sd_ret rfl dX1_boyOf_12)
def cl64_0 : List (Nat × gd_I) := [(0, i_ald 0 1), (1, i_ild 1 2), (2, i_ald 0 3), (3, i_getR 1 15 6), (6, i_getI 6 7 9), (9, i_cV 62 2 1 12), (12, i_msk [false, false] (i_ret))]
theorem cs64_0 : ∀ q ∈ cl64_0, Sd gd_mt M64 q.1 q.2 := gd_ac r64_0 (gd_ac r64_1 (gd_ac r64_2 (gd_ac r64_3 (gd_ac r64_6 (gd_ac r64_9 (gd_ac r64_12 (gd_an)))))))
def cd64 (pc : Nat) : gd_I := lkI cl64_0 pc
theorem cg64 : ∀ pc, Sd gd_mt M64 pc (cd64 pc) := sd_lk cs64_0
theorem r65_0 : Sd gd_mt M65 0 (i_ald 0 1) := sd_aload_n dX1_grows_0 rfl rfl
theorem r65_1 : Sd gd_mt M65 1 (i_ild 1 2) := sd_iload_n dX1_grows_1 rfl rfl
theorem r65_2 : Sd gd_mt M65 2 (i_cV 64 1 1 5) := sd_cV2 e64 cal64 q1223 q1225 (rfl : gd_cl 1 = some _) qs18 dX1_grows_2 rfl
theorem r65_5 : Sd gd_mt M65 5 (i_msk [true, true] (i_ald 0 6)) := sd_msk _ (sd_aload_n dX1_grows_5 rfl rfl)
theorem r65_6 : Sd gd_mt M65 6 (i_getR 1 2 9) := sd_getR ck1 (by decide) rfl (.inl q358) dX1_grows_6 rfl
theorem r65_9 : Sd gd_mt M65 9 (i_cV 145 0 3 12) := sd_cV2 e145 cal145 q345 q346 (rfl : gd_cl 3 = some _) q347 dX1_grows_9 rfl
theorem r65_12 : Sd gd_mt M65 12 (i_msk [false, true] (i_ild 1 13)) := sd_msk _ (sd_iload_n dX1_grows_12 rfl rfl)
theorem r65_13 : Sd gd_mt M65 13 (i_cV 153 1 4 16) := sd_cV2 e153 cal153 q1237 q1051 (rfl : gd_cl 4 = some _) q1052 dX1_grows_13 rfl
theorem r65_16 : Sd gd_mt M65 16 (i_msk [false, false] (i_iret)) := sd_msk _ (sd_iret rfl dX1_grows_16)
def cl65_0 : List (Nat × gd_I) := [(0, i_ald 0 1), (1, i_ild 1 2), (2, i_cV 64 1 1 5), (5, i_msk [true, true] (i_ald 0 6)), (6, i_getR 1 2 9), (9, i_cV 145 0 3 12), (12, i_msk [false, true] (i_ild 1 13)), (13, i_cV 153 1 4 16), (16, i_msk [false, false] (i_iret))]
theorem cs65_0 : ∀ q ∈ cl65_0, Sd gd_mt M65 q.1 q.2 := gd_ac r65_0 (gd_ac r65_1 (gd_ac r65_2 (gd_ac r65_5 (gd_ac r65_6 (gd_ac r65_9 (gd_ac r65_12 (gd_ac r65_13 (gd_ac r65_16 (gd_an)))))))))
def cd65 (pc : Nat) : gd_I := lkI cl65_0 pc
theorem cg65 : ∀ pc, Sd gd_mt M65 pc (cd65 pc) := sd_lk cs65_0
theorem r66_0 : Sd gd_mt M66 0 (i_ald 0 1) := sd_aload_n dX1_would_0 rfl rfl
theorem r66_1 : Sd gd_mt M66 1 (i_ild 1 2) := sd_iload_n dX1_would_1 rfl rfl
theorem r66_2 : Sd gd_mt M66 2 (i_psh (.int 0) 3) := sd_iconst dX1_would_2 (by decide) rfl
theorem r66_3 : Sd gd_mt M66 3 (i_psh (.int 9) 5) := sd_bipush dX1_would_3 (by decide) rfl
theorem r66_5 : Sd gd_mt M66 5 (i_cV 53 3 1 8) := sd_cV2 e53 cal53 q513 q515 (rfl : gd_cl 1 = some _) qs2 dX1_would_5 rfl
theorem r66_8 : Sd gd_mt M66 8 (i_msk [true, true, true, true, true, true, true, true, true] (i_ald 0 9)) := sd_msk _ (sd_aload_n dX1_would_8 rfl rfl)
theorem r66_9 : Sd gd_mt M66 9 (i_ild 2 10) := sd_iload_n dX1_would_9 rfl rfl
theorem r66_10 : Sd gd_mt M66 10 (i_psh (.int 1) 11) := sd_iconst dX1_would_10 (by decide) rfl
theorem r66_11 : Sd gd_mt M66 11 (i_psh (.int 999) 14) := sd_sipush dX1_would_11 (by decide) rfl
theorem r66_14 : Sd gd_mt M66 14 (i_cV 53 3 1 17) := sd_cV2 e53 cal53 q513 q515 (rfl : gd_cl 1 = some _) qs2 dX1_would_14 rfl
theorem r66_17 : Sd gd_mt M66 17 (i_msk [true, true, true, true, true, true, true, true, true] (i_ald 0 18)) := sd_msk _ (sd_aload_n dX1_would_17 rfl rfl)
theorem r66_18 : Sd gd_mt M66 18 (i_ild 3 19) := sd_iload_n dX1_would_18 rfl rfl
theorem r66_19 : Sd gd_mt M66 19 (i_psh (.int 0) 20) := sd_iconst dX1_would_19 (by decide) rfl
theorem r66_20 : Sd gd_mt M66 20 (i_psh (.int 6) 22) := sd_bipush dX1_would_20 (by decide) rfl
theorem r66_22 : Sd gd_mt M66 22 (i_cV 53 3 1 25) := sd_cV2 e53 cal53 q513 q515 (rfl : gd_cl 1 = some _) qs2 dX1_would_22 rfl
theorem r66_25 : Sd gd_mt M66 25 (i_msk [true, true, true, true, true, true, true, true, true] (i_ald 0 26)) := sd_msk _ (sd_aload_n dX1_would_25 rfl rfl)
theorem r66_26 : Sd gd_mt M66 26 (i_ild 4 28) := sd_iload dX1_would_26 rfl
theorem r66_28 : Sd gd_mt M66 28 (i_psh (.int 0) 29) := sd_iconst dX1_would_28 (by decide) rfl
theorem r66_29 : Sd gd_mt M66 29 (i_psh (.int 9) 31) := sd_bipush dX1_would_29 (by decide) rfl
theorem r66_31 : Sd gd_mt M66 31 (i_cV 53 3 1 34) := sd_cV2 e53 cal53 q513 q515 (rfl : gd_cl 1 = some _) qs2 dX1_would_31 rfl
theorem r66_34 : Sd gd_mt M66 34 (i_msk [true, true, true, true, true, true, true, true, true] (i_ald 0 35)) := sd_msk _ (sd_aload_n dX1_would_34 rfl rfl)
theorem r66_35 : Sd gd_mt M66 35 (i_ild 5 37) := sd_iload dX1_would_35 rfl
theorem r66_37 : Sd gd_mt M66 37 (i_psh (.int (-999)) 40) := sd_sipush dX1_would_37 (by decide) rfl
theorem r66_40 : Sd gd_mt M66 40 (i_psh (.int 999) 43) := sd_sipush dX1_would_40 (by decide) rfl
theorem r66_43 : Sd gd_mt M66 43 (i_cV 53 3 1 46) := sd_cV2 e53 cal53 q513 q515 (rfl : gd_cl 1 = some _) qs2 dX1_would_43 rfl
theorem r66_46 : Sd gd_mt M66 46 (i_msk [true, true, true, true, true, true, true, true, true] (i_ald 0 47)) := sd_msk _ (sd_aload_n dX1_would_46 rfl rfl)
theorem r66_47 : Sd gd_mt M66 47 (i_ild 6 49) := sd_iload dX1_would_47 rfl
theorem r66_49 : Sd gd_mt M66 49 (i_psh (.int 0) 50) := sd_iconst dX1_would_49 (by decide) rfl
theorem r66_50 : Sd gd_mt M66 50 (i_psh (.int 11) 52) := sd_bipush dX1_would_50 (by decide) rfl
theorem r66_52 : Sd gd_mt M66 52 (i_cV 53 3 1 55) := sd_cV2 e53 cal53 q513 q515 (rfl : gd_cl 1 = some _) qs2 dX1_would_52 rfl
theorem r66_55 : Sd gd_mt M66 55 (i_msk [true, true, true, true, true, true, true, true, true] (i_ald 0 56)) := sd_msk _ (sd_aload_n dX1_would_55 rfl rfl)
theorem r66_56 : Sd gd_mt M66 56 (i_ild 7 58) := sd_iload dX1_would_56 rfl
theorem r66_58 : Sd gd_mt M66 58 (i_psh (.int 0) 59) := sd_iconst dX1_would_58 (by decide) rfl
theorem r66_59 : Sd gd_mt M66 59 (i_psh (.int 5994) 62) := sd_sipush dX1_would_59 (by decide) rfl
theorem r66_62 : Sd gd_mt M66 62 (i_cV 53 3 1 65) := sd_cV2 e53 cal53 q513 q515 (rfl : gd_cl 1 = some _) qs2 dX1_would_62 rfl
theorem r66_65 : Sd gd_mt M66 65 (i_msk [true, true, true, true, true, true, true, true, true] (i_ald 0 66)) := sd_msk _ (sd_aload_n dX1_would_65 rfl rfl)
theorem r66_66 : Sd gd_mt M66 66 (i_ild 8 68) := sd_iload dX1_would_66 rfl
theorem r66_68 : Sd gd_mt M66 68 (i_psh (.int 0) 69) := sd_iconst dX1_would_68 (by decide) rfl
theorem r66_69 : Sd gd_mt M66 69 (i_psh (.int 6) 71) := sd_bipush dX1_would_69 (by decide) rfl
theorem r66_71 : Sd gd_mt M66 71 (i_cV 53 3 1 74) := sd_cV2 e53 cal53 q513 q515 (rfl : gd_cl 1 = some _) qs2 dX1_would_71 rfl
theorem r66_74 : Sd gd_mt M66 74 (i_msk [true, true, true, true, true, true, true, true, true] (i_ald 0 75)) := sd_msk _ (sd_aload_n dX1_would_74 rfl rfl)
theorem r66_75 : Sd gd_mt M66 75 (i_getR 1 6 78) := sd_getR ck1 (by decide) rfl (.inl q362) dX1_would_75 rfl
theorem r66_78 : Sd gd_mt M66 78 (i_ild 1 79) := sd_iload_n dX1_would_78 rfl rfl
theorem r66_79 : Sd gd_mt M66 79 (i_putI 5 0 82) := sd_putI ck5 (by decide) rfl (.inr ⟨_, q162⟩) (.inl rfl) dX1_would_79 rfl
theorem r66_82 : Sd gd_mt M66 82 (i_ald 0 83) := sd_aload_n dX1_would_82 rfl rfl
theorem r66_83 : Sd gd_mt M66 83 (i_getR 1 6 86) := sd_getR ck1 (by decide) rfl (.inl q362) dX1_would_83 rfl
theorem r66_86 : Sd gd_mt M66 86 (i_ild 2 87) := sd_iload_n dX1_would_86 rfl rfl
theorem r66_87 : Sd gd_mt M66 87 (i_putI 5 1 90) := sd_putI ck5 (by decide) rfl (.inr ⟨_, q165⟩) (.inl rfl) dX1_would_87 rfl
def cl66_0 : List (Nat × gd_I) := [(0, i_ald 0 1), (1, i_ild 1 2), (2, i_psh (.int 0) 3), (3, i_psh (.int 9) 5), (5, i_cV 53 3 1 8), (8, i_msk [true, true, true, true, true, true, true, true, true] (i_ald 0 9)), (9, i_ild 2 10), (10, i_psh (.int 1) 11), (11, i_psh (.int 999) 14), (14, i_cV 53 3 1 17), (17, i_msk [true, true, true, true, true, true, true, true, true] (i_ald 0 18)), (18, i_ild 3 19), (19, i_psh (.int 0) 20), (20, i_psh (.int 6) 22), (22, i_cV 53 3 1 25), (25, i_msk [true, true, true, true, true, true, true, true, true] (i_ald 0 26)), (26, i_ild 4 28), (28, i_psh (.int 0) 29), (29, i_psh (.int 9) 31), (31, i_cV 53 3 1 34), (34, i_msk [true, true, true, true, true, true, true, true, true] (i_ald 0 35)), (35, i_ild 5 37), (37, i_psh (.int (-999)) 40), (40, i_psh (.int 999) 43), (43, i_cV 53 3 1 46), (46, i_msk [true, true, true, true, true, true, true, true, true] (i_ald 0 47)), (47, i_ild 6 49), (49, i_psh (.int 0) 50), (50, i_psh (.int 11) 52), (52, i_cV 53 3 1 55), (55, i_msk [true, true, true, true, true, true, true, true, true] (i_ald 0 56)), (56, i_ild 7 58), (58, i_psh (.int 0) 59), (59, i_psh (.int 5994) 62), (62, i_cV 53 3 1 65), (65, i_msk [true, true, true, true, true, true, true, true, true] (i_ald 0 66)), (66, i_ild 8 68), (68, i_psh (.int 0) 69), (69, i_psh (.int 6) 71), (71, i_cV 53 3 1 74), (74, i_msk [true, true, true, true, true, true, true, true, true] (i_ald 0 75)), (75, i_getR 1 6 78), (78, i_ild 1 79), (79, i_putI 5 0 82), (82, i_ald 0 83), (83, i_getR 1 6 86), (86, i_ild 2 87), (87, i_putI 5 1 90)]
theorem cs66_0 : ∀ q ∈ cl66_0, Sd gd_mt M66 q.1 q.2 := gd_ac r66_0 (gd_ac r66_1 (gd_ac r66_2 (gd_ac r66_3 (gd_ac r66_5 (gd_ac r66_8 (gd_ac r66_9 (gd_ac r66_10 (gd_ac r66_11 (gd_ac r66_14 (gd_ac r66_17 (gd_ac r66_18 (gd_ac r66_19 (gd_ac r66_20 (gd_ac r66_22 (gd_ac r66_25 (gd_ac r66_26 (gd_ac r66_28 (gd_ac r66_29 (gd_ac r66_31 (gd_ac r66_34 (gd_ac r66_35 (gd_ac r66_37 (gd_ac r66_40 (gd_ac r66_43 (gd_ac r66_46 (gd_ac r66_47 (gd_ac r66_49 (gd_ac r66_50 (gd_ac r66_52 (gd_ac r66_55 (gd_ac r66_56 (gd_ac r66_58 (gd_ac r66_59 (gd_ac r66_62 (gd_ac r66_65 (gd_ac r66_66 (gd_ac r66_68 (gd_ac r66_69 (gd_ac r66_71 (gd_ac r66_74 (gd_ac r66_75 (gd_ac r66_78 (gd_ac r66_79 (gd_ac r66_82 (gd_ac r66_83 (gd_ac r66_86 (gd_ac r66_87 (gd_an))))))))))))))))))))))))))))))))))))))))))))))))
theorem r66_90 : Sd gd_mt M66 90 (i_ald 0 91) := sd_aload_n dX1_would_90 rfl rfl
theorem r66_91 : Sd gd_mt M66 91 (i_getR 1 6 94) := sd_getR ck1 (by decide) rfl (.inl q362) dX1_would_91 rfl
theorem r66_94 : Sd gd_mt M66 94 (i_ild 3 95) := sd_iload_n dX1_would_94 rfl rfl
theorem r66_95 : Sd gd_mt M66 95 (i_putI 5 2 98) := sd_putI ck5 (by decide) rfl (.inr ⟨_, q168⟩) (.inl rfl) dX1_would_95 rfl
theorem r66_98 : Sd gd_mt M66 98 (i_ald 0 99) := sd_aload_n dX1_would_98 rfl rfl
theorem r66_99 : Sd gd_mt M66 99 (i_getR 1 6 102) := sd_getR ck1 (by decide) rfl (.inl q362) dX1_would_99 rfl
theorem r66_102 : Sd gd_mt M66 102 (i_ild 4 104) := sd_iload dX1_would_102 rfl
theorem r66_104 : Sd gd_mt M66 104 (i_putI 5 3 107) := sd_putI ck5 (by decide) rfl (.inr ⟨_, q171⟩) (.inl rfl) dX1_would_104 rfl
theorem r66_107 : Sd gd_mt M66 107 (i_ald 0 108) := sd_aload_n dX1_would_107 rfl rfl
theorem r66_108 : Sd gd_mt M66 108 (i_getR 1 6 111) := sd_getR ck1 (by decide) rfl (.inl q362) dX1_would_108 rfl
theorem r66_111 : Sd gd_mt M66 111 (i_ild 5 113) := sd_iload dX1_would_111 rfl
theorem r66_113 : Sd gd_mt M66 113 (i_putI 5 4 116) := sd_putI ck5 (by decide) rfl (.inr ⟨_, q174⟩) (.inl rfl) dX1_would_113 rfl
theorem r66_116 : Sd gd_mt M66 116 (i_ald 0 117) := sd_aload_n dX1_would_116 rfl rfl
theorem r66_117 : Sd gd_mt M66 117 (i_getR 1 6 120) := sd_getR ck1 (by decide) rfl (.inl q362) dX1_would_117 rfl
theorem r66_120 : Sd gd_mt M66 120 (i_ild 6 122) := sd_iload dX1_would_120 rfl
theorem r66_122 : Sd gd_mt M66 122 (i_putI 5 5 125) := sd_putI ck5 (by decide) rfl (.inr ⟨_, q177⟩) (.inl rfl) dX1_would_122 rfl
theorem r66_125 : Sd gd_mt M66 125 (i_ald 0 126) := sd_aload_n dX1_would_125 rfl rfl
theorem r66_126 : Sd gd_mt M66 126 (i_getR 1 6 129) := sd_getR ck1 (by decide) rfl (.inl q362) dX1_would_126 rfl
theorem r66_129 : Sd gd_mt M66 129 (i_ild 7 131) := sd_iload dX1_would_129 rfl
theorem r66_131 : Sd gd_mt M66 131 (i_putI 5 6 134) := sd_putI ck5 (by decide) rfl (.inr ⟨_, q180⟩) (.inl rfl) dX1_would_131 rfl
theorem r66_134 : Sd gd_mt M66 134 (i_ald 0 135) := sd_aload_n dX1_would_134 rfl rfl
theorem r66_135 : Sd gd_mt M66 135 (i_getR 1 6 138) := sd_getR ck1 (by decide) rfl (.inl q362) dX1_would_135 rfl
theorem r66_138 : Sd gd_mt M66 138 (i_ild 8 140) := sd_iload dX1_would_138 rfl
theorem r66_140 : Sd gd_mt M66 140 (i_putI 5 7 143) := sd_putI ck5 (by decide) rfl (.inr ⟨_, q183⟩) (.inl rfl) dX1_would_140 rfl
theorem r66_143 : Sd gd_mt M66 143 (i_ald 0 144) := sd_aload_n dX1_would_143 rfl rfl
theorem r66_144 : Sd gd_mt M66 144 (i_getR 1 1 147) := sd_getR ck1 (by decide) rfl (.inl q357) dX1_would_144 rfl
theorem r66_147 : Sd gd_mt M66 147 (i_ald 0 148) := sd_aload_n dX1_would_147 rfl rfl
theorem r66_148 : Sd gd_mt M66 148 (i_getR 1 6 151) := sd_getR ck1 (by decide) rfl (.inl q362) dX1_would_148 rfl
theorem r66_151 : Sd gd_mt M66 151 (i_cV 135 1 2 154) := sd_cV2 e135 cal135 q1245 q1075 (rfl : gd_cl 2 = some _) q1076 dX1_would_151 rfl
theorem r66_154 : Sd gd_mt M66 154 (i_msk [false, false, false, false, false, false, false, false, false] (i_iret)) := sd_msk _ (sd_iret rfl dX1_would_154)
def cl66_1 : List (Nat × gd_I) := [(90, i_ald 0 91), (91, i_getR 1 6 94), (94, i_ild 3 95), (95, i_putI 5 2 98), (98, i_ald 0 99), (99, i_getR 1 6 102), (102, i_ild 4 104), (104, i_putI 5 3 107), (107, i_ald 0 108), (108, i_getR 1 6 111), (111, i_ild 5 113), (113, i_putI 5 4 116), (116, i_ald 0 117), (117, i_getR 1 6 120), (120, i_ild 6 122), (122, i_putI 5 5 125), (125, i_ald 0 126), (126, i_getR 1 6 129), (129, i_ild 7 131), (131, i_putI 5 6 134), (134, i_ald 0 135), (135, i_getR 1 6 138), (138, i_ild 8 140), (140, i_putI 5 7 143), (143, i_ald 0 144), (144, i_getR 1 1 147), (147, i_ald 0 148), (148, i_getR 1 6 151), (151, i_cV 135 1 2 154), (154, i_msk [false, false, false, false, false, false, false, false, false] (i_iret))]
theorem cs66_1 : ∀ q ∈ cl66_1, Sd gd_mt M66 q.1 q.2 := gd_ac r66_90 (gd_ac r66_91 (gd_ac r66_94 (gd_ac r66_95 (gd_ac r66_98 (gd_ac r66_99 (gd_ac r66_102 (gd_ac r66_104 (gd_ac r66_107 (gd_ac r66_108 (gd_ac r66_111 (gd_ac r66_113 (gd_ac r66_116 (gd_ac r66_117 (gd_ac r66_120 (gd_ac r66_122 (gd_ac r66_125 (gd_ac r66_126 (gd_ac r66_129 (gd_ac r66_131 (gd_ac r66_134 (gd_ac r66_135 (gd_ac r66_138 (gd_ac r66_140 (gd_ac r66_143 (gd_ac r66_144 (gd_ac r66_147 (gd_ac r66_148 (gd_ac r66_151 (gd_ac r66_154 (gd_an))))))))))))))))))))))))))))))
def cd66 (pc : Nat) : gd_I := if pc < 90 then lkI cl66_0 pc else lkI cl66_1 pc
theorem cg66 : ∀ pc, Sd gd_mt M66 pc (cd66 pc) := by
  intro pc
  unfold cd66
  by_cases h0 : pc < 90
  · rw [if_pos h0]; exact sd_lk cs66_0 pc
  rw [if_neg h0]
  exact sd_lk cs66_1 pc
theorem r67_0 : Sd gd_mt M67 0 (i_ald 0 1) := sd_aload_n dX1_ahead_0 rfl rfl
theorem r67_1 : Sd gd_mt M67 1 (i_ild 1 2) := sd_iload_n dX1_ahead_1 rfl rfl
theorem r67_2 : Sd gd_mt M67 2 (i_psh (.int 0) 3) := sd_iconst dX1_ahead_2 (by decide) rfl
theorem r67_3 : Sd gd_mt M67 3 (i_psh (.int 99) 5) := sd_bipush dX1_ahead_3 (by decide) rfl
theorem r67_5 : Sd gd_mt M67 5 (i_cV 53 3 1 8) := sd_cV2 e53 cal53 q513 q515 (rfl : gd_cl 1 = some _) qs2 dX1_ahead_5 rfl
theorem r67_8 : Sd gd_mt M67 8 (i_msk [true, true, true, false] (i_ald 0 9)) := sd_msk _ (sd_aload_n dX1_ahead_8 rfl rfl)
theorem r67_9 : Sd gd_mt M67 9 (i_ild 2 10) := sd_iload_n dX1_ahead_9 rfl rfl
theorem r67_10 : Sd gd_mt M67 10 (i_psh (.int 0) 11) := sd_iconst dX1_ahead_10 (by decide) rfl
theorem r67_11 : Sd gd_mt M67 11 (i_psh (.int 2) 12) := sd_iconst dX1_ahead_11 (by decide) rfl
theorem r67_12 : Sd gd_mt M67 12 (i_cV 53 3 1 15) := sd_cV2 e53 cal53 q513 q515 (rfl : gd_cl 1 = some _) qs2 dX1_ahead_12 rfl
theorem r67_15 : Sd gd_mt M67 15 (i_msk [true, true, true, false] (i_ald 0 16)) := sd_msk _ (sd_aload_n dX1_ahead_15 rfl rfl)
theorem r67_16 : Sd gd_mt M67 16 (i_cV 68 0 1 19) := sd_cV2 e68 cal68 q1253 q1255 (rfl : gd_cl 1 = some _) qs19 dX1_ahead_16 rfl
theorem r67_19 : Sd gd_mt M67 19 (i_msk [true, true, true, false] (i_pop 20)) := sd_msk _ (sd_pop dX1_ahead_19 rfl)
theorem r67_20 : Sd gd_mt M67 20 (i_psh (.int 0) 21) := sd_iconst dX1_ahead_20 (by decide) rfl
theorem r67_21 : Sd gd_mt M67 21 (i_ist 3 22) := sd_istore_n dX1_ahead_21 rfl (by decide) rfl
theorem r67_22 : Sd gd_mt M67 22 (i_msk [true, true, true, true] (i_ild 3 23)) := sd_msk _ (sd_iload_n dX1_ahead_22 rfl rfl)
theorem r67_23 : Sd gd_mt M67 23 (i_ild 1 24) := sd_iload_n dX1_ahead_23 rfl rfl
theorem r67_24 : Sd gd_mt M67 24 (i_icge 40 27) := sd_icge dX1_ahead_24 (by decide) rfl
theorem r67_27 : Sd gd_mt M67 27 (i_ald 0 28) := sd_aload_n dX1_ahead_27 rfl rfl
theorem r67_28 : Sd gd_mt M67 28 (i_getR 1 4 31) := sd_getR ck1 (by decide) rfl (.inl q360) dX1_ahead_28 rfl
theorem r67_31 : Sd gd_mt M67 31 (i_cV 152 0 4 34) := sd_cV2 e152 cal152 q1257 q1047 (rfl : gd_cl 4 = some _) q1048 dX1_ahead_31 rfl
theorem r67_34 : Sd gd_mt M67 34 (i_msk [true, true, true, true] (i_inc 3 1 37)) := sd_msk _ (sd_iinc dX1_ahead_34 (by decide) (by decide) rfl)
theorem r67_37 : Sd gd_mt M67 37 (i_goto 22) := sd_goto dX1_ahead_37 (by decide)
theorem r67_40 : Sd gd_mt M67 40 (i_ild 2 41) := sd_iload_n dX1_ahead_40 rfl rfl
theorem r67_41 : Sd gd_mt M67 41 (i_ifne 54 44) := sd_ifne dX1_ahead_41 (by decide) rfl
theorem r67_44 : Sd gd_mt M67 44 (i_ald 0 45) := sd_aload_n dX1_ahead_44 rfl rfl
theorem r67_45 : Sd gd_mt M67 45 (i_getR 1 4 48) := sd_getR ck1 (by decide) rfl (.inl q360) dX1_ahead_45 rfl
theorem r67_48 : Sd gd_mt M67 48 (i_cV 158 0 4 51) := sd_cV2 e158 cal158 q1177 q1071 (rfl : gd_cl 4 = some _) q1072 dX1_ahead_48 rfl
theorem r67_51 : Sd gd_mt M67 51 (i_msk [false, false, false, false] (i_goto 76)) := sd_msk _ (sd_goto dX1_ahead_51 (by decide))
theorem r67_54 : Sd gd_mt M67 54 (i_ild 2 55) := sd_iload_n dX1_ahead_54 rfl rfl
theorem r67_55 : Sd gd_mt M67 55 (i_psh (.int 1) 56) := sd_iconst dX1_ahead_55 (by decide) rfl
theorem r67_56 : Sd gd_mt M67 56 (i_icne 69 59) := sd_icne dX1_ahead_56 (by decide) rfl
theorem r67_59 : Sd gd_mt M67 59 (i_ald 0 60) := sd_aload_n dX1_ahead_59 rfl rfl
theorem r67_60 : Sd gd_mt M67 60 (i_getR 1 4 63) := sd_getR ck1 (by decide) rfl (.inl q360) dX1_ahead_60 rfl
theorem r67_63 : Sd gd_mt M67 63 (i_cV 168 0 4 66) := sd_cV2 e168 cal168 q1258 q1259 (rfl : gd_cl 4 = some _) q1260 dX1_ahead_63 rfl
theorem r67_66 : Sd gd_mt M67 66 (i_msk [false, false, false, false] (i_goto 76)) := sd_msk _ (sd_goto dX1_ahead_66 (by decide))
theorem r67_69 : Sd gd_mt M67 69 (i_ald 0 70) := sd_aload_n dX1_ahead_69 rfl rfl
theorem r67_70 : Sd gd_mt M67 70 (i_getR 1 4 73) := sd_getR ck1 (by decide) rfl (.inl q360) dX1_ahead_70 rfl
theorem r67_73 : Sd gd_mt M67 73 (i_cV 167 0 4 76) := sd_cV2 e167 cal167 q1179 q1180 (rfl : gd_cl 4 = some _) q1181 dX1_ahead_73 rfl
theorem r67_76 : Sd gd_mt M67 76 (i_msk [false, false, false, false] (i_iret)) := sd_msk _ (sd_iret rfl dX1_ahead_76)
def cl67_0 : List (Nat × gd_I) := [(0, i_ald 0 1), (1, i_ild 1 2), (2, i_psh (.int 0) 3), (3, i_psh (.int 99) 5), (5, i_cV 53 3 1 8), (8, i_msk [true, true, true, false] (i_ald 0 9)), (9, i_ild 2 10), (10, i_psh (.int 0) 11), (11, i_psh (.int 2) 12), (12, i_cV 53 3 1 15), (15, i_msk [true, true, true, false] (i_ald 0 16)), (16, i_cV 68 0 1 19), (19, i_msk [true, true, true, false] (i_pop 20)), (20, i_psh (.int 0) 21), (21, i_ist 3 22), (22, i_msk [true, true, true, true] (i_ild 3 23)), (23, i_ild 1 24), (24, i_icge 40 27), (27, i_ald 0 28), (28, i_getR 1 4 31), (31, i_cV 152 0 4 34), (34, i_msk [true, true, true, true] (i_inc 3 1 37)), (37, i_goto 22), (40, i_ild 2 41), (41, i_ifne 54 44), (44, i_ald 0 45), (45, i_getR 1 4 48), (48, i_cV 158 0 4 51), (51, i_msk [false, false, false, false] (i_goto 76)), (54, i_ild 2 55), (55, i_psh (.int 1) 56), (56, i_icne 69 59), (59, i_ald 0 60), (60, i_getR 1 4 63), (63, i_cV 168 0 4 66), (66, i_msk [false, false, false, false] (i_goto 76)), (69, i_ald 0 70), (70, i_getR 1 4 73), (73, i_cV 167 0 4 76), (76, i_msk [false, false, false, false] (i_iret))]
theorem cs67_0 : ∀ q ∈ cl67_0, Sd gd_mt M67 q.1 q.2 := gd_ac r67_0 (gd_ac r67_1 (gd_ac r67_2 (gd_ac r67_3 (gd_ac r67_5 (gd_ac r67_8 (gd_ac r67_9 (gd_ac r67_10 (gd_ac r67_11 (gd_ac r67_12 (gd_ac r67_15 (gd_ac r67_16 (gd_ac r67_19 (gd_ac r67_20 (gd_ac r67_21 (gd_ac r67_22 (gd_ac r67_23 (gd_ac r67_24 (gd_ac r67_27 (gd_ac r67_28 (gd_ac r67_31 (gd_ac r67_34 (gd_ac r67_37 (gd_ac r67_40 (gd_ac r67_41 (gd_ac r67_44 (gd_ac r67_45 (gd_ac r67_48 (gd_ac r67_51 (gd_ac r67_54 (gd_ac r67_55 (gd_ac r67_56 (gd_ac r67_59 (gd_ac r67_60 (gd_ac r67_63 (gd_ac r67_66 (gd_ac r67_69 (gd_ac r67_70 (gd_ac r67_73 (gd_ac r67_76 (gd_an))))))))))))))))))))))))))))))))))))))))
def cd67 (pc : Nat) : gd_I := lkI cl67_0 pc
theorem cg67 : ∀ pc, Sd gd_mt M67 pc (cd67 pc) := sd_lk cs67_0
theorem r68_0 : Sd gd_mt M68 0 (i_ald 0 1) := sd_aload_n dX1_tried_0 rfl rfl
theorem r68_1 : Sd gd_mt M68 1 (i_getR 1 4 4) := sd_getR ck1 (by decide) rfl (.inl q360) dX1_tried_1 rfl
theorem r68_4 : Sd gd_mt M68 4 (i_ald 0 5) := sd_aload_n dX1_tried_4 rfl rfl
theorem r68_5 : Sd gd_mt M68 5 (i_getR 1 2 8) := sd_getR ck1 (by decide) rfl (.inl q358) dX1_tried_5 rfl
theorem r68_8 : Sd gd_mt M68 8 (i_cV 145 0 3 11) := sd_cV2 e145 cal145 q345 q346 (rfl : gd_cl 3 = some _) q347 dX1_tried_8 rfl
theorem r68_11 : Sd gd_mt M68 11 (i_msk [false] (i_cV 150 1 4 14)) := sd_msk _ (sd_cV2 e150 cal150 q1001 q489 (rfl : gd_cl 4 = some _) q490 dX1_tried_11 rfl)
theorem r68_14 : Sd gd_mt M68 14 (i_msk [false] (i_aret)) := sd_msk _ (sd_aret (.inl ⟨_, rfl⟩) rfl dX1_tried_14)
def cl68_0 : List (Nat × gd_I) := [(0, i_ald 0 1), (1, i_getR 1 4 4), (4, i_ald 0 5), (5, i_getR 1 2 8), (8, i_cV 145 0 3 11), (11, i_msk [false] (i_cV 150 1 4 14)), (14, i_msk [false] (i_aret))]
theorem cs68_0 : ∀ q ∈ cl68_0, Sd gd_mt M68 q.1 q.2 := gd_ac r68_0 (gd_ac r68_1 (gd_ac r68_4 (gd_ac r68_5 (gd_ac r68_8 (gd_ac r68_11 (gd_ac r68_14 (gd_an)))))))
def cd68 (pc : Nat) : gd_I := lkI cl68_0 pc
theorem cg68 : ∀ pc, Sd gd_mt M68 pc (cd68 pc) := sd_lk cs68_0
theorem r69_0 : Sd gd_mt M69 0 (i_ald 0 1) := sd_aload_n dX1_passes_0 rfl rfl
theorem r69_1 : Sd gd_mt M69 1 (i_ild 1 2) := sd_iload_n dX1_passes_1 rfl rfl
theorem r69_2 : Sd gd_mt M69 2 (i_cV 64 1 1 5) := sd_cV2 e64 cal64 q1223 q1225 (rfl : gd_cl 1 = some _) qs18 dX1_passes_2 rfl
theorem r69_5 : Sd gd_mt M69 5 (i_msk [true, true, true, false] (i_ald 0 6)) := sd_msk _ (sd_aload_n dX1_passes_5 rfl rfl)
theorem r69_6 : Sd gd_mt M69 6 (i_ild 2 7) := sd_iload_n dX1_passes_6 rfl rfl
theorem r69_7 : Sd gd_mt M69 7 (i_cV 64 1 1 10) := sd_cV2 e64 cal64 q1223 q1225 (rfl : gd_cl 1 = some _) qs18 dX1_passes_7 rfl
theorem r69_10 : Sd gd_mt M69 10 (i_msk [true, true, true, false] (i_ild 1 11)) := sd_msk _ (sd_iload_n dX1_passes_10 rfl rfl)
theorem r69_11 : Sd gd_mt M69 11 (i_ild 2 12) := sd_iload_n dX1_passes_11 rfl rfl
theorem r69_12 : Sd gd_mt M69 12 (i_icne 22 15) := sd_icne dX1_passes_12 (by decide) rfl
theorem r69_15 : Sd gd_mt M69 15 (i_ald 0 16) := sd_aload_n dX1_passes_15 rfl rfl
theorem r69_16 : Sd gd_mt M69 16 (i_psh (.int 1) 17) := sd_iconst dX1_passes_16 (by decide) rfl
theorem r69_17 : Sd gd_mt M69 17 (i_psh (.int 0) 18) := sd_iconst dX1_passes_17 (by decide) rfl
theorem r69_18 : Sd gd_mt M69 18 (i_psh (.int 0) 19) := sd_iconst dX1_passes_18 (by decide) rfl
theorem r69_19 : Sd gd_mt M69 19 (i_cV 53 3 1 22) := sd_cV2 e53 cal53 q513 q515 (rfl : gd_cl 1 = some _) qs2 dX1_passes_19 rfl
theorem r69_22 : Sd gd_mt M69 22 (i_msk [true, true, true, false] (i_ald 0 23)) := sd_msk _ (sd_aload_n dX1_passes_22 rfl rfl)
theorem r69_23 : Sd gd_mt M69 23 (i_cV 68 0 1 26) := sd_cV2 e68 cal68 q1253 q1255 (rfl : gd_cl 1 = some _) qs19 dX1_passes_23 rfl
theorem r69_26 : Sd gd_mt M69 26 (i_msk [true, true, true, false] (i_pop 27)) := sd_msk _ (sd_pop dX1_passes_26 rfl)
theorem r69_27 : Sd gd_mt M69 27 (i_psh (.int 0) 28) := sd_iconst dX1_passes_27 (by decide) rfl
theorem r69_28 : Sd gd_mt M69 28 (i_ist 3 29) := sd_istore_n dX1_passes_28 rfl (by decide) rfl
theorem r69_29 : Sd gd_mt M69 29 (i_msk [true, true, true, true] (i_ild 3 30)) := sd_msk _ (sd_iload_n dX1_passes_29 rfl rfl)
theorem r69_30 : Sd gd_mt M69 30 (i_psh (.int 99) 32) := sd_bipush dX1_passes_30 (by decide) rfl
theorem r69_32 : Sd gd_mt M69 32 (i_icgt 71 35) := sd_icgt dX1_passes_32 (by decide) rfl
theorem r69_35 : Sd gd_mt M69 35 (i_ald 0 36) := sd_aload_n dX1_passes_35 rfl rfl
theorem r69_36 : Sd gd_mt M69 36 (i_getR 1 4 39) := sd_getR ck1 (by decide) rfl (.inl q360) dX1_passes_36 rfl
theorem r69_39 : Sd gd_mt M69 39 (i_getR 4 1 42) := sd_getR ck4 (by decide) rfl (.inr ⟨_, q260⟩) dX1_passes_39 rfl
theorem r69_42 : Sd gd_mt M69 42 (i_ild 1 43) := sd_iload_n dX1_passes_42 rfl rfl
theorem r69_43 : Sd gd_mt M69 43 (i_aldI 31 44) := sd_iald dX1_passes_43 rfl
theorem r69_44 : Sd gd_mt M69 44 (i_ald 0 45) := sd_aload_n dX1_passes_44 rfl rfl
theorem r69_45 : Sd gd_mt M69 45 (i_getR 1 4 48) := sd_getR ck1 (by decide) rfl (.inl q360) dX1_passes_45 rfl
theorem r69_48 : Sd gd_mt M69 48 (i_getR 4 1 51) := sd_getR ck4 (by decide) rfl (.inr ⟨_, q260⟩) dX1_passes_48 rfl
theorem r69_51 : Sd gd_mt M69 51 (i_ild 2 52) := sd_iload_n dX1_passes_51 rfl rfl
theorem r69_52 : Sd gd_mt M69 52 (i_aldI 31 53) := sd_iald dX1_passes_52 rfl
theorem r69_53 : Sd gd_mt M69 53 (i_icle 58 56) := sd_icle dX1_passes_53 (by decide) rfl
theorem r69_56 : Sd gd_mt M69 56 (i_ild 3 57) := sd_iload_n dX1_passes_56 rfl rfl
theorem r69_57 : Sd gd_mt M69 57 (i_iret) := sd_iret rfl dX1_passes_57
theorem r69_58 : Sd gd_mt M69 58 (i_ald 0 59) := sd_aload_n dX1_passes_58 rfl rfl
theorem r69_59 : Sd gd_mt M69 59 (i_getR 1 4 62) := sd_getR ck1 (by decide) rfl (.inl q360) dX1_passes_59 rfl
theorem r69_62 : Sd gd_mt M69 62 (i_cV 152 0 4 65) := sd_cV2 e152 cal152 q1257 q1047 (rfl : gd_cl 4 = some _) q1048 dX1_passes_62 rfl
theorem r69_65 : Sd gd_mt M69 65 (i_msk [true, true, true, true] (i_inc 3 1 68)) := sd_msk _ (sd_iinc dX1_passes_65 (by decide) (by decide) rfl)
theorem r69_68 : Sd gd_mt M69 68 (i_goto 29) := sd_goto dX1_passes_68 (by decide)
theorem r69_71 : Sd gd_mt M69 71 (i_psh (.int (-1)) 72) := sd_iconst dX1_passes_71 (by decide) rfl
theorem r69_72 : Sd gd_mt M69 72 (i_iret) := sd_iret rfl dX1_passes_72
def cl69_0 : List (Nat × gd_I) := [(0, i_ald 0 1), (1, i_ild 1 2), (2, i_cV 64 1 1 5), (5, i_msk [true, true, true, false] (i_ald 0 6)), (6, i_ild 2 7), (7, i_cV 64 1 1 10), (10, i_msk [true, true, true, false] (i_ild 1 11)), (11, i_ild 2 12), (12, i_icne 22 15), (15, i_ald 0 16), (16, i_psh (.int 1) 17), (17, i_psh (.int 0) 18), (18, i_psh (.int 0) 19), (19, i_cV 53 3 1 22), (22, i_msk [true, true, true, false] (i_ald 0 23)), (23, i_cV 68 0 1 26), (26, i_msk [true, true, true, false] (i_pop 27)), (27, i_psh (.int 0) 28), (28, i_ist 3 29), (29, i_msk [true, true, true, true] (i_ild 3 30)), (30, i_psh (.int 99) 32), (32, i_icgt 71 35), (35, i_ald 0 36), (36, i_getR 1 4 39), (39, i_getR 4 1 42), (42, i_ild 1 43), (43, i_aldI 31 44), (44, i_ald 0 45), (45, i_getR 1 4 48), (48, i_getR 4 1 51), (51, i_ild 2 52), (52, i_aldI 31 53), (53, i_icle 58 56), (56, i_ild 3 57), (57, i_iret), (58, i_ald 0 59), (59, i_getR 1 4 62), (62, i_cV 152 0 4 65), (65, i_msk [true, true, true, true] (i_inc 3 1 68)), (68, i_goto 29), (71, i_psh (.int (-1)) 72), (72, i_iret)]
theorem cs69_0 : ∀ q ∈ cl69_0, Sd gd_mt M69 q.1 q.2 := gd_ac r69_0 (gd_ac r69_1 (gd_ac r69_2 (gd_ac r69_5 (gd_ac r69_6 (gd_ac r69_7 (gd_ac r69_10 (gd_ac r69_11 (gd_ac r69_12 (gd_ac r69_15 (gd_ac r69_16 (gd_ac r69_17 (gd_ac r69_18 (gd_ac r69_19 (gd_ac r69_22 (gd_ac r69_23 (gd_ac r69_26 (gd_ac r69_27 (gd_ac r69_28 (gd_ac r69_29 (gd_ac r69_30 (gd_ac r69_32 (gd_ac r69_35 (gd_ac r69_36 (gd_ac r69_39 (gd_ac r69_42 (gd_ac r69_43 (gd_ac r69_44 (gd_ac r69_45 (gd_ac r69_48 (gd_ac r69_51 (gd_ac r69_52 (gd_ac r69_53 (gd_ac r69_56 (gd_ac r69_57 (gd_ac r69_58 (gd_ac r69_59 (gd_ac r69_62 (gd_ac r69_65 (gd_ac r69_68 (gd_ac r69_71 (gd_ac r69_72 (gd_an))))))))))))))))))))))))))))))))))))))))))
def cd69 (pc : Nat) : gd_I := lkI cl69_0 pc
theorem cg69 : ∀ pc, Sd gd_mt M69 pc (cd69 pc) := sd_lk cs69_0
theorem r70_0 : Sd gd_mt M70 0 (i_ald 0 1) := sd_aload_n dX1_feeds_0 rfl rfl
theorem r70_1 : Sd gd_mt M70 1 (i_ild 1 2) := sd_iload_n dX1_feeds_1 rfl rfl
theorem r70_2 : Sd gd_mt M70 2 (i_cV 64 1 1 5) := sd_cV2 e64 cal64 q1223 q1225 (rfl : gd_cl 1 = some _) qs18 dX1_feeds_2 rfl
theorem r70_5 : Sd gd_mt M70 5 (i_msk [true, true, true, false, false] (i_ald 0 6)) := sd_msk _ (sd_aload_n dX1_feeds_5 rfl rfl)
theorem r70_6 : Sd gd_mt M70 6 (i_ild 2 7) := sd_iload_n dX1_feeds_6 rfl rfl
theorem r70_7 : Sd gd_mt M70 7 (i_psh (.int 0) 8) := sd_iconst dX1_feeds_7 (by decide) rfl
theorem r70_8 : Sd gd_mt M70 8 (i_psh (.int 99) 10) := sd_bipush dX1_feeds_8 (by decide) rfl
theorem r70_10 : Sd gd_mt M70 10 (i_cV 53 3 1 13) := sd_cV2 e53 cal53 q513 q515 (rfl : gd_cl 1 = some _) qs2 dX1_feeds_10 rfl
theorem r70_13 : Sd gd_mt M70 13 (i_msk [true, true, true, false, false] (i_psh (.int 0) 14)) := sd_msk _ (sd_iconst dX1_feeds_13 (by decide) rfl)
theorem r70_14 : Sd gd_mt M70 14 (i_ist 3 15) := sd_istore_n dX1_feeds_14 rfl (by decide) rfl
theorem r70_15 : Sd gd_mt M70 15 (i_msk [true, true, true, true, false] (i_ild 3 16)) := sd_msk _ (sd_iload_n dX1_feeds_15 rfl rfl)
theorem r70_16 : Sd gd_mt M70 16 (i_psh (.int 10) 18) := sd_bipush dX1_feeds_16 (by decide) rfl
theorem r70_18 : Sd gd_mt M70 18 (i_icge 93 21) := sd_icge dX1_feeds_18 (by decide) rfl
theorem r70_21 : Sd gd_mt M70 21 (i_ald 0 22) := sd_aload_n dX1_feeds_21 rfl rfl
theorem r70_22 : Sd gd_mt M70 22 (i_getR 1 2 25) := sd_getR ck1 (by decide) rfl (.inl q358) dX1_feeds_22 rfl
theorem r70_25 : Sd gd_mt M70 25 (i_cV 145 0 3 28) := sd_cV2 e145 cal145 q345 q346 (rfl : gd_cl 3 = some _) q347 dX1_feeds_25 rfl
theorem r70_28 : Sd gd_mt M70 28 (i_msk [true, true, true, true, false] (i_getR 4 3 31)) := sd_msk _ (sd_getR ck4 (by decide) rfl (.inr ⟨_, q264⟩) dX1_feeds_28 rfl)
theorem r70_31 : Sd gd_mt M70 31 (i_ild 1 32) := sd_iload_n dX1_feeds_31 rfl rfl
theorem r70_32 : Sd gd_mt M70 32 (i_aldI 31 33) := sd_iald dX1_feeds_32 rfl
theorem r70_33 : Sd gd_mt M70 33 (i_psh (.int (-1)) 34) := sd_iconst dX1_feeds_33 (by decide) rfl
theorem r70_34 : Sd gd_mt M70 34 (i_iceq 93 37) := sd_iceq dX1_feeds_34 (by decide) rfl
theorem r70_37 : Sd gd_mt M70 37 (i_ald 0 38) := sd_aload_n dX1_feeds_37 rfl rfl
theorem r70_38 : Sd gd_mt M70 38 (i_cV 68 0 1 41) := sd_cV2 e68 cal68 q1253 q1255 (rfl : gd_cl 1 = some _) qs19 dX1_feeds_38 rfl
theorem r70_41 : Sd gd_mt M70 41 (i_msk [true, true, true, true, false] (i_pop 42)) := sd_msk _ (sd_pop dX1_feeds_41 rfl)
theorem r70_42 : Sd gd_mt M70 42 (i_ald 0 43) := sd_aload_n dX1_feeds_42 rfl rfl
theorem r70_43 : Sd gd_mt M70 43 (i_getR 1 4 46) := sd_getR ck1 (by decide) rfl (.inl q360) dX1_feeds_43 rfl
theorem r70_46 : Sd gd_mt M70 46 (i_getR 4 2 49) := sd_getR ck4 (by decide) rfl (.inr ⟨_, q262⟩) dX1_feeds_46 rfl
theorem r70_49 : Sd gd_mt M70 49 (i_ild 1 50) := sd_iload_n dX1_feeds_49 rfl rfl
theorem r70_50 : Sd gd_mt M70 50 (i_ild 3 51) := sd_iload_n dX1_feeds_50 rfl rfl
theorem r70_51 : Sd gd_mt M70 51 (i_astI 52) := sd_astI dX1_feeds_51 rfl
theorem r70_52 : Sd gd_mt M70 52 (i_psh (.int 0) 53) := sd_iconst dX1_feeds_52 (by decide) rfl
theorem r70_53 : Sd gd_mt M70 53 (i_ist 4 55) := sd_istore dX1_feeds_53 (by decide) rfl
theorem r70_55 : Sd gd_mt M70 55 (i_msk [true, true, true, true, true] (i_ild 4 57)) := sd_msk _ (sd_iload dX1_feeds_55 rfl)
theorem r70_57 : Sd gd_mt M70 57 (i_ild 2 58) := sd_iload_n dX1_feeds_57 rfl rfl
theorem r70_58 : Sd gd_mt M70 58 (i_icge 74 61) := sd_icge dX1_feeds_58 (by decide) rfl
theorem r70_61 : Sd gd_mt M70 61 (i_ald 0 62) := sd_aload_n dX1_feeds_61 rfl rfl
theorem r70_62 : Sd gd_mt M70 62 (i_getR 1 4 65) := sd_getR ck1 (by decide) rfl (.inl q360) dX1_feeds_62 rfl
theorem r70_65 : Sd gd_mt M70 65 (i_cV 152 0 4 68) := sd_cV2 e152 cal152 q1257 q1047 (rfl : gd_cl 4 = some _) q1048 dX1_feeds_65 rfl
theorem r70_68 : Sd gd_mt M70 68 (i_msk [true, true, true, true, true] (i_inc 4 1 71)) := sd_msk _ (sd_iinc dX1_feeds_68 (by decide) (by decide) rfl)
theorem r70_71 : Sd gd_mt M70 71 (i_goto 55) := sd_goto dX1_feeds_71 (by decide)
theorem r70_74 : Sd gd_mt M70 74 (i_ald 0 75) := sd_aload_n dX1_feeds_74 rfl rfl
theorem r70_75 : Sd gd_mt M70 75 (i_getR 1 4 78) := sd_getR ck1 (by decide) rfl (.inl q360) dX1_feeds_75 rfl
theorem r70_78 : Sd gd_mt M70 78 (i_ild 1 79) := sd_iload_n dX1_feeds_78 rfl rfl
theorem r70_79 : Sd gd_mt M70 79 (i_cV 155 1 4 82) := sd_cV2 e155 cal155 q1228 q1059 (rfl : gd_cl 4 = some _) q1060 dX1_feeds_79 rfl
theorem r70_82 : Sd gd_mt M70 82 (i_msk [true, true, true, true, false] (i_iflt 87 85)) := sd_msk _ (sd_iflt dX1_feeds_82 (by decide) rfl)
theorem r70_85 : Sd gd_mt M70 85 (i_ild 3 86) := sd_iload_n dX1_feeds_85 rfl rfl
theorem r70_86 : Sd gd_mt M70 86 (i_iret) := sd_iret rfl dX1_feeds_86
theorem r70_87 : Sd gd_mt M70 87 (i_inc 3 1 90) := sd_iinc dX1_feeds_87 (by decide) (by decide) rfl
def cl70_0 : List (Nat × gd_I) := [(0, i_ald 0 1), (1, i_ild 1 2), (2, i_cV 64 1 1 5), (5, i_msk [true, true, true, false, false] (i_ald 0 6)), (6, i_ild 2 7), (7, i_psh (.int 0) 8), (8, i_psh (.int 99) 10), (10, i_cV 53 3 1 13), (13, i_msk [true, true, true, false, false] (i_psh (.int 0) 14)), (14, i_ist 3 15), (15, i_msk [true, true, true, true, false] (i_ild 3 16)), (16, i_psh (.int 10) 18), (18, i_icge 93 21), (21, i_ald 0 22), (22, i_getR 1 2 25), (25, i_cV 145 0 3 28), (28, i_msk [true, true, true, true, false] (i_getR 4 3 31)), (31, i_ild 1 32), (32, i_aldI 31 33), (33, i_psh (.int (-1)) 34), (34, i_iceq 93 37), (37, i_ald 0 38), (38, i_cV 68 0 1 41), (41, i_msk [true, true, true, true, false] (i_pop 42)), (42, i_ald 0 43), (43, i_getR 1 4 46), (46, i_getR 4 2 49), (49, i_ild 1 50), (50, i_ild 3 51), (51, i_astI 52), (52, i_psh (.int 0) 53), (53, i_ist 4 55), (55, i_msk [true, true, true, true, true] (i_ild 4 57)), (57, i_ild 2 58), (58, i_icge 74 61), (61, i_ald 0 62), (62, i_getR 1 4 65), (65, i_cV 152 0 4 68), (68, i_msk [true, true, true, true, true] (i_inc 4 1 71)), (71, i_goto 55), (74, i_ald 0 75), (75, i_getR 1 4 78), (78, i_ild 1 79), (79, i_cV 155 1 4 82), (82, i_msk [true, true, true, true, false] (i_iflt 87 85)), (85, i_ild 3 86), (86, i_iret), (87, i_inc 3 1 90)]
theorem cs70_0 : ∀ q ∈ cl70_0, Sd gd_mt M70 q.1 q.2 := gd_ac r70_0 (gd_ac r70_1 (gd_ac r70_2 (gd_ac r70_5 (gd_ac r70_6 (gd_ac r70_7 (gd_ac r70_8 (gd_ac r70_10 (gd_ac r70_13 (gd_ac r70_14 (gd_ac r70_15 (gd_ac r70_16 (gd_ac r70_18 (gd_ac r70_21 (gd_ac r70_22 (gd_ac r70_25 (gd_ac r70_28 (gd_ac r70_31 (gd_ac r70_32 (gd_ac r70_33 (gd_ac r70_34 (gd_ac r70_37 (gd_ac r70_38 (gd_ac r70_41 (gd_ac r70_42 (gd_ac r70_43 (gd_ac r70_46 (gd_ac r70_49 (gd_ac r70_50 (gd_ac r70_51 (gd_ac r70_52 (gd_ac r70_53 (gd_ac r70_55 (gd_ac r70_57 (gd_ac r70_58 (gd_ac r70_61 (gd_ac r70_62 (gd_ac r70_65 (gd_ac r70_68 (gd_ac r70_71 (gd_ac r70_74 (gd_ac r70_75 (gd_ac r70_78 (gd_ac r70_79 (gd_ac r70_82 (gd_ac r70_85 (gd_ac r70_86 (gd_ac r70_87 (gd_an))))))))))))))))))))))))))))))))))))))))))))))))
theorem r70_90 : Sd gd_mt M70 90 (i_goto 15) := sd_goto dX1_feeds_90 (by decide)
theorem r70_93 : Sd gd_mt M70 93 (i_msk [false, false, false, false, false] (i_psh (.int (-1)) 94)) := sd_msk _ (sd_iconst dX1_feeds_93 (by decide) rfl)
theorem r70_94 : Sd gd_mt M70 94 (i_iret) := sd_iret rfl dX1_feeds_94
def cl70_1 : List (Nat × gd_I) := [(90, i_goto 15), (93, i_msk [false, false, false, false, false] (i_psh (.int (-1)) 94)), (94, i_iret)]
theorem cs70_1 : ∀ q ∈ cl70_1, Sd gd_mt M70 q.1 q.2 := gd_ac r70_90 (gd_ac r70_93 (gd_ac r70_94 (gd_an)))
def cd70 (pc : Nat) : gd_I := if pc < 90 then lkI cl70_0 pc else lkI cl70_1 pc
theorem cg70 : ∀ pc, Sd gd_mt M70 pc (cd70 pc) := by
  intro pc
  unfold cd70
  by_cases h0 : pc < 90
  · rw [if_pos h0]; exact sd_lk cs70_0 pc
  rw [if_neg h0]
  exact sd_lk cs70_1 pc
theorem r71_0 : Sd gd_mt M71 0 (i_ald 0 1) := sd_aload_n dX1_mate_0 rfl rfl
theorem r71_1 : Sd gd_mt M71 1 (i_ild 1 2) := sd_iload_n dX1_mate_1 rfl rfl
theorem r71_2 : Sd gd_mt M71 2 (i_cV 64 1 1 5) := sd_cV2 e64 cal64 q1223 q1225 (rfl : gd_cl 1 = some _) qs18 dX1_mate_2 rfl
theorem r71_5 : Sd gd_mt M71 5 (i_msk [true, true] (i_ald 0 6)) := sd_msk _ (sd_aload_n dX1_mate_5 rfl rfl)
theorem r71_6 : Sd gd_mt M71 6 (i_getR 1 5 9) := sd_getR ck1 (by decide) rfl (.inl q361) dX1_mate_6 rfl
theorem r71_9 : Sd gd_mt M71 9 (i_ald 0 10) := sd_aload_n dX1_mate_9 rfl rfl
theorem r71_10 : Sd gd_mt M71 10 (i_getR 1 2 13) := sd_getR ck1 (by decide) rfl (.inl q358) dX1_mate_10 rfl
theorem r71_13 : Sd gd_mt M71 13 (i_cV 145 0 3 16) := sd_cV2 e145 cal145 q345 q346 (rfl : gd_cl 3 = some _) q347 dX1_mate_13 rfl
theorem r71_16 : Sd gd_mt M71 16 (i_msk [true, true] (i_cV 173 1 7 19)) := sd_msk _ (sd_cV2 e173 cal173 q443 q444 (rfl : gd_cl 7 = some _) q445 dX1_mate_16 rfl)
theorem r71_19 : Sd gd_mt M71 19 (i_msk [true, true] (i_ald 0 20)) := sd_msk _ (sd_aload_n dX1_mate_19 rfl rfl)
theorem r71_20 : Sd gd_mt M71 20 (i_getR 1 5 23) := sd_getR ck1 (by decide) rfl (.inl q361) dX1_mate_20 rfl
theorem r71_23 : Sd gd_mt M71 23 (i_getR 7 1 26) := sd_getR ck7 (by decide) rfl (.inr ⟨_, q328⟩) dX1_mate_23 rfl
theorem r71_26 : Sd gd_mt M71 26 (i_ild 1 27) := sd_iload_n dX1_mate_26 rfl rfl
theorem r71_27 : Sd gd_mt M71 27 (i_aldI 31 28) := sd_iald dX1_mate_27 rfl
theorem r71_28 : Sd gd_mt M71 28 (i_iret) := sd_iret rfl dX1_mate_28
def cl71_0 : List (Nat × gd_I) := [(0, i_ald 0 1), (1, i_ild 1 2), (2, i_cV 64 1 1 5), (5, i_msk [true, true] (i_ald 0 6)), (6, i_getR 1 5 9), (9, i_ald 0 10), (10, i_getR 1 2 13), (13, i_cV 145 0 3 16), (16, i_msk [true, true] (i_cV 173 1 7 19)), (19, i_msk [true, true] (i_ald 0 20)), (20, i_getR 1 5 23), (23, i_getR 7 1 26), (26, i_ild 1 27), (27, i_aldI 31 28), (28, i_iret)]
theorem cs71_0 : ∀ q ∈ cl71_0, Sd gd_mt M71 q.1 q.2 := gd_ac r71_0 (gd_ac r71_1 (gd_ac r71_2 (gd_ac r71_5 (gd_ac r71_6 (gd_ac r71_9 (gd_ac r71_10 (gd_ac r71_13 (gd_ac r71_16 (gd_ac r71_19 (gd_ac r71_20 (gd_ac r71_23 (gd_ac r71_26 (gd_ac r71_27 (gd_ac r71_28 (gd_an)))))))))))))))
def cd71 (pc : Nat) : gd_I := lkI cl71_0 pc
theorem cg71 : ∀ pc, Sd gd_mt M71 pc (cd71 pc) := sd_lk cs71_0
theorem r72_0 : Sd gd_mt M72 0 (i_ald 0 1) := sd_aload_n dX1_rung_0 rfl rfl
theorem r72_1 : Sd gd_mt M72 1 (i_ild 1 2) := sd_iload_n dX1_rung_1 rfl rfl
theorem r72_2 : Sd gd_mt M72 2 (i_psh (.int 0) 3) := sd_iconst dX1_rung_2 (by decide) rfl
theorem r72_3 : Sd gd_mt M72 3 (i_psh (.int 2147483647) 6) := sd_ldcw dX1_rung_3 q1290 rfl
theorem r72_6 : Sd gd_mt M72 6 (i_cV 53 3 1 9) := sd_cV2 e53 cal53 q513 q515 (rfl : gd_cl 1 = some _) qs2 dX1_rung_6 rfl
theorem r72_9 : Sd gd_mt M72 9 (i_msk [true, true] (i_ild 1 10)) := sd_msk _ (sd_iload_n dX1_rung_9 rfl rfl)
theorem r72_10 : Sd gd_mt M72 10 (i_ald 0 11) := sd_aload_n dX1_rung_10 rfl rfl
theorem r72_11 : Sd gd_mt M72 11 (i_cV 47 0 1 14) := sd_cV2 e47 cal47 q473 q475 (rfl : gd_cl 1 = some _) qs1 dX1_rung_11 rfl
theorem r72_14 : Sd gd_mt M72 14 (i_msk [true, true] (i_icge 26 17)) := sd_msk _ (sd_icge dX1_rung_14 (by decide) rfl)
theorem r72_17 : Sd gd_mt M72 17 (i_ald 0 18) := sd_aload_n dX1_rung_17 rfl rfl
theorem r72_18 : Sd gd_mt M72 18 (i_getR 1 13 21) := sd_getR ck1 (by decide) rfl (.inl q369) dX1_rung_18 rfl
theorem r72_21 : Sd gd_mt M72 21 (i_ild 1 22) := sd_iload_n dX1_rung_21 rfl rfl
theorem r72_22 : Sd gd_mt M72 22 (i_aldI 31 23) := sd_iald dX1_rung_22 rfl
theorem r72_23 : Sd gd_mt M72 23 (i_goto 27) := sd_goto dX1_rung_23 (by decide)
theorem r72_26 : Sd gd_mt M72 26 (i_psh (.int (-1)) 27) := sd_iconst dX1_rung_26 (by decide) rfl
theorem r72_27 : Sd gd_mt M72 27 (i_msk [false, false] (i_iret)) := sd_msk _ (sd_iret rfl dX1_rung_27)
def cl72_0 : List (Nat × gd_I) := [(0, i_ald 0 1), (1, i_ild 1 2), (2, i_psh (.int 0) 3), (3, i_psh (.int 2147483647) 6), (6, i_cV 53 3 1 9), (9, i_msk [true, true] (i_ild 1 10)), (10, i_ald 0 11), (11, i_cV 47 0 1 14), (14, i_msk [true, true] (i_icge 26 17)), (17, i_ald 0 18), (18, i_getR 1 13 21), (21, i_ild 1 22), (22, i_aldI 31 23), (23, i_goto 27), (26, i_psh (.int (-1)) 27), (27, i_msk [false, false] (i_iret))]
theorem cs72_0 : ∀ q ∈ cl72_0, Sd gd_mt M72 q.1 q.2 := gd_ac r72_0 (gd_ac r72_1 (gd_ac r72_2 (gd_ac r72_3 (gd_ac r72_6 (gd_ac r72_9 (gd_ac r72_10 (gd_ac r72_11 (gd_ac r72_14 (gd_ac r72_17 (gd_ac r72_18 (gd_ac r72_21 (gd_ac r72_22 (gd_ac r72_23 (gd_ac r72_26 (gd_ac r72_27 (gd_an))))))))))))))))
def cd72 (pc : Nat) : gd_I := lkI cl72_0 pc
theorem cg72 : ∀ pc, Sd gd_mt M72 pc (cd72 pc) := sd_lk cs72_0
theorem r73_0 : Sd gd_mt M73 0 (i_ald 0 1) := sd_aload_n dX1_fits_0 rfl rfl
theorem r73_1 : Sd gd_mt M73 1 (i_ild 1 2) := sd_iload_n dX1_fits_1 rfl rfl
theorem r73_2 : Sd gd_mt M73 2 (i_cV 64 1 1 5) := sd_cV2 e64 cal64 q1223 q1225 (rfl : gd_cl 1 = some _) qs18 dX1_fits_2 rfl
theorem r73_5 : Sd gd_mt M73 5 (i_msk [true, true, true, false, false, false] (i_ald 0 6)) := sd_msk _ (sd_aload_n dX1_fits_5 rfl rfl)
theorem r73_6 : Sd gd_mt M73 6 (i_ild 2 7) := sd_iload_n dX1_fits_6 rfl rfl
theorem r73_7 : Sd gd_mt M73 7 (i_psh (.int 0) 8) := sd_iconst dX1_fits_7 (by decide) rfl
theorem r73_8 : Sd gd_mt M73 8 (i_psh (.int 1) 9) := sd_iconst dX1_fits_8 (by decide) rfl
theorem r73_9 : Sd gd_mt M73 9 (i_cV 53 3 1 12) := sd_cV2 e53 cal53 q513 q515 (rfl : gd_cl 1 = some _) qs2 dX1_fits_9 rfl
theorem r73_12 : Sd gd_mt M73 12 (i_msk [true, true, true, false, false, false] (i_psh (.int 0) 13)) := sd_msk _ (sd_iconst dX1_fits_12 (by decide) rfl)
theorem r73_13 : Sd gd_mt M73 13 (i_ist 3 14) := sd_istore_n dX1_fits_13 rfl (by decide) rfl
theorem r73_14 : Sd gd_mt M73 14 (i_psh (.int (-1)) 15) := sd_iconst dX1_fits_14 (by decide) rfl
theorem r73_15 : Sd gd_mt M73 15 (i_ist 4 17) := sd_istore dX1_fits_15 (by decide) rfl
theorem r73_17 : Sd gd_mt M73 17 (i_psh (.int 0) 18) := sd_iconst dX1_fits_17 (by decide) rfl
theorem r73_18 : Sd gd_mt M73 18 (i_ist 5 20) := sd_istore dX1_fits_18 (by decide) rfl
theorem r73_20 : Sd gd_mt M73 20 (i_msk [true, true, true, true, true, true] (i_ild 5 22)) := sd_msk _ (sd_iload dX1_fits_20 rfl)
theorem r73_22 : Sd gd_mt M73 22 (i_psh (.int 100) 24) := sd_bipush dX1_fits_22 (by decide) rfl
theorem r73_24 : Sd gd_mt M73 24 (i_icge 62 27) := sd_icge dX1_fits_24 (by decide) rfl
theorem r73_27 : Sd gd_mt M73 27 (i_ald 0 28) := sd_aload_n dX1_fits_27 rfl rfl
theorem r73_28 : Sd gd_mt M73 28 (i_ild 1 29) := sd_iload_n dX1_fits_28 rfl rfl
theorem r73_29 : Sd gd_mt M73 29 (i_ild 5 31) := sd_iload dX1_fits_29 rfl
theorem r73_31 : Sd gd_mt M73 31 (i_psh (.int 10) 33) := sd_bipush dX1_fits_31 (by decide) rfl
theorem r73_33 : Sd gd_mt M73 33 (i_idiv 34) := sd_idiv dX1_fits_33 rfl
theorem r73_34 : Sd gd_mt M73 34 (i_ild 5 36) := sd_iload dX1_fits_34 rfl
theorem r73_36 : Sd gd_mt M73 36 (i_psh (.int 10) 38) := sd_bipush dX1_fits_36 (by decide) rfl
theorem r73_38 : Sd gd_mt M73 38 (i_irem 39) := sd_irem dX1_fits_38 rfl
theorem r73_39 : Sd gd_mt M73 39 (i_cV 74 3 1 42) := sd_cV2 e74 cal74 q1298 q1300 (rfl : gd_cl 1 = some _) qs20 dX1_fits_39 rfl
theorem r73_42 : Sd gd_mt M73 42 (i_msk [true, true, true, true, true, true] (i_ifeq 56 45)) := sd_msk _ (sd_ifeq dX1_fits_42 (by decide) rfl)
theorem r73_45 : Sd gd_mt M73 45 (i_ild 3 46) := sd_iload_n dX1_fits_45 rfl rfl
theorem r73_46 : Sd gd_mt M73 46 (i_inc 3 1 49) := sd_iinc dX1_fits_46 (by decide) (by decide) rfl
theorem r73_49 : Sd gd_mt M73 49 (i_ifne 56 52) := sd_ifne dX1_fits_49 (by decide) rfl
theorem r73_52 : Sd gd_mt M73 52 (i_ild 5 54) := sd_iload dX1_fits_52 rfl
theorem r73_54 : Sd gd_mt M73 54 (i_ist 4 56) := sd_istore dX1_fits_54 (by decide) rfl
theorem r73_56 : Sd gd_mt M73 56 (i_msk [true, true, true, true, true, true] (i_inc 5 1 59)) := sd_msk _ (sd_iinc dX1_fits_56 (by decide) (by decide) rfl)
theorem r73_59 : Sd gd_mt M73 59 (i_goto 20) := sd_goto dX1_fits_59 (by decide)
theorem r73_62 : Sd gd_mt M73 62 (i_ild 2 63) := sd_iload_n dX1_fits_62 rfl rfl
theorem r73_63 : Sd gd_mt M73 63 (i_ifne 70 66) := sd_ifne dX1_fits_63 (by decide) rfl
theorem r73_66 : Sd gd_mt M73 66 (i_ild 3 67) := sd_iload_n dX1_fits_66 rfl rfl
theorem r73_67 : Sd gd_mt M73 67 (i_goto 72) := sd_goto dX1_fits_67 (by decide)
theorem r73_70 : Sd gd_mt M73 70 (i_ild 4 72) := sd_iload dX1_fits_70 rfl
theorem r73_72 : Sd gd_mt M73 72 (i_msk [false, false, false, false, false, false] (i_iret)) := sd_msk _ (sd_iret rfl dX1_fits_72)
def cl73_0 : List (Nat × gd_I) := [(0, i_ald 0 1), (1, i_ild 1 2), (2, i_cV 64 1 1 5), (5, i_msk [true, true, true, false, false, false] (i_ald 0 6)), (6, i_ild 2 7), (7, i_psh (.int 0) 8), (8, i_psh (.int 1) 9), (9, i_cV 53 3 1 12), (12, i_msk [true, true, true, false, false, false] (i_psh (.int 0) 13)), (13, i_ist 3 14), (14, i_psh (.int (-1)) 15), (15, i_ist 4 17), (17, i_psh (.int 0) 18), (18, i_ist 5 20), (20, i_msk [true, true, true, true, true, true] (i_ild 5 22)), (22, i_psh (.int 100) 24), (24, i_icge 62 27), (27, i_ald 0 28), (28, i_ild 1 29), (29, i_ild 5 31), (31, i_psh (.int 10) 33), (33, i_idiv 34), (34, i_ild 5 36), (36, i_psh (.int 10) 38), (38, i_irem 39), (39, i_cV 74 3 1 42), (42, i_msk [true, true, true, true, true, true] (i_ifeq 56 45)), (45, i_ild 3 46), (46, i_inc 3 1 49), (49, i_ifne 56 52), (52, i_ild 5 54), (54, i_ist 4 56), (56, i_msk [true, true, true, true, true, true] (i_inc 5 1 59)), (59, i_goto 20), (62, i_ild 2 63), (63, i_ifne 70 66), (66, i_ild 3 67), (67, i_goto 72), (70, i_ild 4 72), (72, i_msk [false, false, false, false, false, false] (i_iret))]
theorem cs73_0 : ∀ q ∈ cl73_0, Sd gd_mt M73 q.1 q.2 := gd_ac r73_0 (gd_ac r73_1 (gd_ac r73_2 (gd_ac r73_5 (gd_ac r73_6 (gd_ac r73_7 (gd_ac r73_8 (gd_ac r73_9 (gd_ac r73_12 (gd_ac r73_13 (gd_ac r73_14 (gd_ac r73_15 (gd_ac r73_17 (gd_ac r73_18 (gd_ac r73_20 (gd_ac r73_22 (gd_ac r73_24 (gd_ac r73_27 (gd_ac r73_28 (gd_ac r73_29 (gd_ac r73_31 (gd_ac r73_33 (gd_ac r73_34 (gd_ac r73_36 (gd_ac r73_38 (gd_ac r73_39 (gd_ac r73_42 (gd_ac r73_45 (gd_ac r73_46 (gd_ac r73_49 (gd_ac r73_52 (gd_ac r73_54 (gd_ac r73_56 (gd_ac r73_59 (gd_ac r73_62 (gd_ac r73_63 (gd_ac r73_66 (gd_ac r73_67 (gd_ac r73_70 (gd_ac r73_72 (gd_an))))))))))))))))))))))))))))))))))))))))
def cd73 (pc : Nat) : gd_I := lkI cl73_0 pc
theorem cg73 : ∀ pc, Sd gd_mt M73 pc (cd73 pc) := sd_lk cs73_0
theorem r74_0 : Sd gd_mt M74 0 (i_ald 0 1) := sd_aload_n dX1_isGrown_0 rfl rfl
theorem r74_1 : Sd gd_mt M74 1 (i_cV 68 0 1 4) := sd_cV2 e68 cal68 q1253 q1255 (rfl : gd_cl 1 = some _) qs19 dX1_isGrown_1 rfl
theorem r74_4 : Sd gd_mt M74 4 (i_msk [true, true, true, true, false] (i_pop 5)) := sd_msk _ (sd_pop dX1_isGrown_4 rfl)
theorem r74_5 : Sd gd_mt M74 5 (i_ald 0 6) := sd_aload_n dX1_isGrown_5 rfl rfl
theorem r74_6 : Sd gd_mt M74 6 (i_getR 1 4 9) := sd_getR ck1 (by decide) rfl (.inl q360) dX1_isGrown_6 rfl
theorem r74_9 : Sd gd_mt M74 9 (i_getR 4 2 12) := sd_getR ck4 (by decide) rfl (.inr ⟨_, q262⟩) dX1_isGrown_9 rfl
theorem r74_12 : Sd gd_mt M74 12 (i_ild 1 13) := sd_iload_n dX1_isGrown_12 rfl rfl
theorem r74_13 : Sd gd_mt M74 13 (i_ild 2 14) := sd_iload_n dX1_isGrown_13 rfl rfl
theorem r74_14 : Sd gd_mt M74 14 (i_astI 15) := sd_astI dX1_isGrown_14 rfl
theorem r74_15 : Sd gd_mt M74 15 (i_ald 0 16) := sd_aload_n dX1_isGrown_15 rfl rfl
theorem r74_16 : Sd gd_mt M74 16 (i_getR 1 4 19) := sd_getR ck1 (by decide) rfl (.inl q360) dX1_isGrown_16 rfl
theorem r74_19 : Sd gd_mt M74 19 (i_ild 3 20) := sd_iload_n dX1_isGrown_19 rfl rfl
theorem r74_20 : Sd gd_mt M74 20 (i_putI 4 13 23) := sd_putI ck4 (by decide) rfl (.inr ⟨_, q279⟩) (.inl rfl) dX1_isGrown_20 rfl
theorem r74_23 : Sd gd_mt M74 23 (i_psh (.int 1) 24) := sd_iconst dX1_isGrown_23 (by decide) rfl
theorem r74_24 : Sd gd_mt M74 24 (i_ist 4 26) := sd_istore dX1_isGrown_24 (by decide) rfl
theorem r74_26 : Sd gd_mt M74 26 (i_msk [true, true, false, false, true] (i_ild 4 28)) := sd_msk _ (sd_iload dX1_isGrown_26 rfl)
theorem r74_28 : Sd gd_mt M74 28 (i_psh (.int 12) 30) := sd_bipush dX1_isGrown_28 (by decide) rfl
theorem r74_30 : Sd gd_mt M74 30 (i_icgt 62 33) := sd_icgt dX1_isGrown_30 (by decide) rfl
theorem r74_33 : Sd gd_mt M74 33 (i_ald 0 34) := sd_aload_n dX1_isGrown_33 rfl rfl
theorem r74_34 : Sd gd_mt M74 34 (i_getR 1 4 37) := sd_getR ck1 (by decide) rfl (.inl q360) dX1_isGrown_34 rfl
theorem r74_37 : Sd gd_mt M74 37 (i_cV 152 0 4 40) := sd_cV2 e152 cal152 q1257 q1047 (rfl : gd_cl 4 = some _) q1048 dX1_isGrown_37 rfl
theorem r74_40 : Sd gd_mt M74 40 (i_msk [true, true, false, false, true] (i_ald 0 41)) := sd_msk _ (sd_aload_n dX1_isGrown_40 rfl rfl)
theorem r74_41 : Sd gd_mt M74 41 (i_getR 1 10 44) := sd_getR ck1 (by decide) rfl (.inl q366) dX1_isGrown_41 rfl
theorem r74_44 : Sd gd_mt M74 44 (i_ild 4 46) := sd_iload dX1_isGrown_44 rfl
theorem r74_46 : Sd gd_mt M74 46 (i_ald 0 47) := sd_aload_n dX1_isGrown_46 rfl rfl
theorem r74_47 : Sd gd_mt M74 47 (i_getR 1 4 50) := sd_getR ck1 (by decide) rfl (.inl q360) dX1_isGrown_47 rfl
theorem r74_50 : Sd gd_mt M74 50 (i_getR 4 1 53) := sd_getR ck4 (by decide) rfl (.inr ⟨_, q260⟩) dX1_isGrown_50 rfl
theorem r74_53 : Sd gd_mt M74 53 (i_ild 1 54) := sd_iload_n dX1_isGrown_53 rfl rfl
theorem r74_54 : Sd gd_mt M74 54 (i_aldI 31 55) := sd_iald dX1_isGrown_54 rfl
theorem r74_55 : Sd gd_mt M74 55 (i_astI 56) := sd_astI dX1_isGrown_55 rfl
theorem r74_56 : Sd gd_mt M74 56 (i_inc 4 1 59) := sd_iinc dX1_isGrown_56 (by decide) (by decide) rfl
theorem r74_59 : Sd gd_mt M74 59 (i_goto 26) := sd_goto dX1_isGrown_59 (by decide)
theorem r74_62 : Sd gd_mt M74 62 (i_psh (.int 0) 63) := sd_iconst dX1_isGrown_62 (by decide) rfl
theorem r74_63 : Sd gd_mt M74 63 (i_ist 4 65) := sd_istore dX1_isGrown_63 (by decide) rfl
theorem r74_65 : Sd gd_mt M74 65 (i_msk [true, false, false, false, true] (i_ild 4 67)) := sd_msk _ (sd_iload dX1_isGrown_65 rfl)
theorem r74_67 : Sd gd_mt M74 67 (i_ald 0 68) := sd_aload_n dX1_isGrown_67 rfl rfl
theorem r74_68 : Sd gd_mt M74 68 (i_getI 1 18 71) := sd_getI ck1 (by decide) rfl (.inl q374) dX1_isGrown_68 rfl
theorem r74_71 : Sd gd_mt M74 71 (i_icge 104 74) := sd_icge dX1_isGrown_71 (by decide) rfl
theorem r74_74 : Sd gd_mt M74 74 (i_ald 0 75) := sd_aload_n dX1_isGrown_74 rfl rfl
theorem r74_75 : Sd gd_mt M74 75 (i_getR 1 10 78) := sd_getR ck1 (by decide) rfl (.inl q366) dX1_isGrown_75 rfl
theorem r74_78 : Sd gd_mt M74 78 (i_ald 0 79) := sd_aload_n dX1_isGrown_78 rfl rfl
theorem r74_79 : Sd gd_mt M74 79 (i_getR 1 8 82) := sd_getR ck1 (by decide) rfl (.inl q364) dX1_isGrown_79 rfl
theorem r74_82 : Sd gd_mt M74 82 (i_ild 4 84) := sd_iload dX1_isGrown_82 rfl
theorem r74_84 : Sd gd_mt M74 84 (i_aldI 31 85) := sd_iald dX1_isGrown_84 rfl
theorem r74_85 : Sd gd_mt M74 85 (i_aldI 31 86) := sd_iald dX1_isGrown_85 rfl
theorem r74_86 : Sd gd_mt M74 86 (i_ald 0 87) := sd_aload_n dX1_isGrown_86 rfl rfl
theorem r74_87 : Sd gd_mt M74 87 (i_getR 1 9 90) := sd_getR ck1 (by decide) rfl (.inl q365) dX1_isGrown_87 rfl
theorem r74_90 : Sd gd_mt M74 90 (i_ild 4 92) := sd_iload dX1_isGrown_90 rfl
def cl74_0 : List (Nat × gd_I) := [(0, i_ald 0 1), (1, i_cV 68 0 1 4), (4, i_msk [true, true, true, true, false] (i_pop 5)), (5, i_ald 0 6), (6, i_getR 1 4 9), (9, i_getR 4 2 12), (12, i_ild 1 13), (13, i_ild 2 14), (14, i_astI 15), (15, i_ald 0 16), (16, i_getR 1 4 19), (19, i_ild 3 20), (20, i_putI 4 13 23), (23, i_psh (.int 1) 24), (24, i_ist 4 26), (26, i_msk [true, true, false, false, true] (i_ild 4 28)), (28, i_psh (.int 12) 30), (30, i_icgt 62 33), (33, i_ald 0 34), (34, i_getR 1 4 37), (37, i_cV 152 0 4 40), (40, i_msk [true, true, false, false, true] (i_ald 0 41)), (41, i_getR 1 10 44), (44, i_ild 4 46), (46, i_ald 0 47), (47, i_getR 1 4 50), (50, i_getR 4 1 53), (53, i_ild 1 54), (54, i_aldI 31 55), (55, i_astI 56), (56, i_inc 4 1 59), (59, i_goto 26), (62, i_psh (.int 0) 63), (63, i_ist 4 65), (65, i_msk [true, false, false, false, true] (i_ild 4 67)), (67, i_ald 0 68), (68, i_getI 1 18 71), (71, i_icge 104 74), (74, i_ald 0 75), (75, i_getR 1 10 78), (78, i_ald 0 79), (79, i_getR 1 8 82), (82, i_ild 4 84), (84, i_aldI 31 85), (85, i_aldI 31 86), (86, i_ald 0 87), (87, i_getR 1 9 90), (90, i_ild 4 92)]
theorem cs74_0 : ∀ q ∈ cl74_0, Sd gd_mt M74 q.1 q.2 := gd_ac r74_0 (gd_ac r74_1 (gd_ac r74_4 (gd_ac r74_5 (gd_ac r74_6 (gd_ac r74_9 (gd_ac r74_12 (gd_ac r74_13 (gd_ac r74_14 (gd_ac r74_15 (gd_ac r74_16 (gd_ac r74_19 (gd_ac r74_20 (gd_ac r74_23 (gd_ac r74_24 (gd_ac r74_26 (gd_ac r74_28 (gd_ac r74_30 (gd_ac r74_33 (gd_ac r74_34 (gd_ac r74_37 (gd_ac r74_40 (gd_ac r74_41 (gd_ac r74_44 (gd_ac r74_46 (gd_ac r74_47 (gd_ac r74_50 (gd_ac r74_53 (gd_ac r74_54 (gd_ac r74_55 (gd_ac r74_56 (gd_ac r74_59 (gd_ac r74_62 (gd_ac r74_63 (gd_ac r74_65 (gd_ac r74_67 (gd_ac r74_68 (gd_ac r74_71 (gd_ac r74_74 (gd_ac r74_75 (gd_ac r74_78 (gd_ac r74_79 (gd_ac r74_82 (gd_ac r74_84 (gd_ac r74_85 (gd_ac r74_86 (gd_ac r74_87 (gd_ac r74_90 (gd_an))))))))))))))))))))))))))))))))))))))))))))))))
theorem r74_92 : Sd gd_mt M74 92 (i_aldI 31 93) := sd_iald dX1_isGrown_92 rfl
theorem r74_93 : Sd gd_mt M74 93 (i_iceq 98 96) := sd_iceq dX1_isGrown_93 (by decide) rfl
theorem r74_96 : Sd gd_mt M74 96 (i_psh (.int 0) 97) := sd_iconst dX1_isGrown_96 (by decide) rfl
theorem r74_97 : Sd gd_mt M74 97 (i_zret) := sd_zret rfl dX1_isGrown_97
theorem r74_98 : Sd gd_mt M74 98 (i_inc 4 1 101) := sd_iinc dX1_isGrown_98 (by decide) (by decide) rfl
theorem r74_101 : Sd gd_mt M74 101 (i_goto 65) := sd_goto dX1_isGrown_101 (by decide)
theorem r74_104 : Sd gd_mt M74 104 (i_psh (.int 1) 105) := sd_iconst dX1_isGrown_104 (by decide) rfl
theorem r74_105 : Sd gd_mt M74 105 (i_zret) := sd_zret rfl dX1_isGrown_105
def cl74_1 : List (Nat × gd_I) := [(92, i_aldI 31 93), (93, i_iceq 98 96), (96, i_psh (.int 0) 97), (97, i_zret), (98, i_inc 4 1 101), (101, i_goto 65), (104, i_psh (.int 1) 105), (105, i_zret)]
theorem cs74_1 : ∀ q ∈ cl74_1, Sd gd_mt M74 q.1 q.2 := gd_ac r74_92 (gd_ac r74_93 (gd_ac r74_96 (gd_ac r74_97 (gd_ac r74_98 (gd_ac r74_101 (gd_ac r74_104 (gd_ac r74_105 (gd_an))))))))
def cd74 (pc : Nat) : gd_I := if pc < 92 then lkI cl74_0 pc else lkI cl74_1 pc
theorem cg74 : ∀ pc, Sd gd_mt M74 pc (cd74 pc) := by
  intro pc
  unfold cd74
  by_cases h0 : pc < 92
  · rw [if_pos h0]; exact sd_lk cs74_0 pc
  rw [if_neg h0]
  exact sd_lk cs74_1 pc
theorem r75_0 : Sd gd_mt M75 0 (i_ald 0 1) := sd_aload_n dX1_look_0 rfl rfl
theorem r75_1 : Sd gd_mt M75 1 (i_ild 1 2) := sd_iload_n dX1_look_1 rfl rfl
theorem r75_2 : Sd gd_mt M75 2 (i_cV 64 1 1 5) := sd_cV2 e64 cal64 q1223 q1225 (rfl : gd_cl 1 = some _) qs18 dX1_look_2 rfl
theorem r75_5 : Sd gd_mt M75 5 (i_msk [true, true, true, false, false, false, false] (i_ald 0 6)) := sd_msk _ (sd_aload_n dX1_look_5 rfl rfl)
theorem r75_6 : Sd gd_mt M75 6 (i_ild 2 7) := sd_iload_n dX1_look_6 rfl rfl
theorem r75_7 : Sd gd_mt M75 7 (i_psh (.int 0) 8) := sd_iconst dX1_look_7 (by decide) rfl
theorem r75_8 : Sd gd_mt M75 8 (i_psh (.int 1) 9) := sd_iconst dX1_look_8 (by decide) rfl
theorem r75_9 : Sd gd_mt M75 9 (i_cV 53 3 1 12) := sd_cV2 e53 cal53 q513 q515 (rfl : gd_cl 1 = some _) qs2 dX1_look_9 rfl
theorem r75_12 : Sd gd_mt M75 12 (i_msk [true, true, true, false, false, false, false] (i_psh (.int (-1)) 13)) := sd_msk _ (sd_iconst dX1_look_12 (by decide) rfl)
theorem r75_13 : Sd gd_mt M75 13 (i_ist 3 14) := sd_istore_n dX1_look_13 rfl (by decide) rfl
theorem r75_14 : Sd gd_mt M75 14 (i_psh (.int (-1)) 15) := sd_iconst dX1_look_14 (by decide) rfl
theorem r75_15 : Sd gd_mt M75 15 (i_ist 4 17) := sd_istore dX1_look_15 (by decide) rfl
theorem r75_17 : Sd gd_mt M75 17 (i_psh (.int 1) 18) := sd_iconst dX1_look_17 (by decide) rfl
theorem r75_18 : Sd gd_mt M75 18 (i_ist 5 20) := sd_istore dX1_look_18 (by decide) rfl
theorem r75_20 : Sd gd_mt M75 20 (i_msk [true, true, true, true, true, true, false] (i_ild 5 22)) := sd_msk _ (sd_iload dX1_look_20 rfl)
theorem r75_22 : Sd gd_mt M75 22 (i_psh (.int 12) 24) := sd_bipush dX1_look_22 (by decide) rfl
theorem r75_24 : Sd gd_mt M75 24 (i_icgt 76 27) := sd_icgt dX1_look_24 (by decide) rfl
theorem r75_27 : Sd gd_mt M75 27 (i_ald 0 28) := sd_aload_n dX1_look_27 rfl rfl
theorem r75_28 : Sd gd_mt M75 28 (i_ild 5 30) := sd_iload dX1_look_28 rfl
theorem r75_30 : Sd gd_mt M75 30 (i_cV 76 1 1 33) := sd_cV2 e76 cal76 q1309 q1311 (rfl : gd_cl 1 = some _) qs21 dX1_look_30 rfl
theorem r75_33 : Sd gd_mt M75 33 (i_msk [true, true, true, true, true, true, false] (i_ifeq 39 36)) := sd_msk _ (sd_ifeq dX1_look_33 (by decide) rfl)
theorem r75_36 : Sd gd_mt M75 36 (i_goto 70) := sd_goto dX1_look_36 (by decide)
theorem r75_39 : Sd gd_mt M75 39 (i_ald 0 40) := sd_aload_n dX1_look_39 rfl rfl
theorem r75_40 : Sd gd_mt M75 40 (i_ild 1 41) := sd_iload_n dX1_look_40 rfl rfl
theorem r75_41 : Sd gd_mt M75 41 (i_ild 5 43) := sd_iload dX1_look_41 rfl
theorem r75_43 : Sd gd_mt M75 43 (i_cV 77 2 1 46) := sd_cV2 e77 cal77 q1313 q1315 (rfl : gd_cl 1 = some _) qs22 dX1_look_43 rfl
theorem r75_46 : Sd gd_mt M75 46 (i_msk [true, true, true, true, true, true, false] (i_ist 6 48)) := sd_msk _ (sd_istore dX1_look_46 (by decide) rfl)
theorem r75_48 : Sd gd_mt M75 48 (i_ild 3 49) := sd_iload_n dX1_look_48 rfl rfl
theorem r75_49 : Sd gd_mt M75 49 (i_psh (.int (-1)) 50) := sd_iconst dX1_look_49 (by decide) rfl
theorem r75_50 : Sd gd_mt M75 50 (i_iceq 63 53) := sd_iceq dX1_look_50 (by decide) rfl
theorem r75_53 : Sd gd_mt M75 53 (i_ild 6 55) := sd_iload dX1_look_53 rfl
theorem r75_55 : Sd gd_mt M75 55 (i_ild 4 57) := sd_iload dX1_look_55 rfl
theorem r75_57 : Sd gd_mt M75 57 (i_iclt 63 60) := sd_iclt dX1_look_57 (by decide) rfl
theorem r75_60 : Sd gd_mt M75 60 (i_goto 70) := sd_goto dX1_look_60 (by decide)
theorem r75_63 : Sd gd_mt M75 63 (i_msk [true, true, true, false, false, true, true] (i_ild 5 65)) := sd_msk _ (sd_iload dX1_look_63 rfl)
theorem r75_65 : Sd gd_mt M75 65 (i_ist 3 66) := sd_istore_n dX1_look_65 rfl (by decide) rfl
theorem r75_66 : Sd gd_mt M75 66 (i_ild 6 68) := sd_iload dX1_look_66 rfl
theorem r75_68 : Sd gd_mt M75 68 (i_ist 4 70) := sd_istore dX1_look_68 (by decide) rfl
theorem r75_70 : Sd gd_mt M75 70 (i_msk [true, true, true, true, true, true, false] (i_inc 5 1 73)) := sd_msk _ (sd_iinc dX1_look_70 (by decide) (by decide) rfl)
theorem r75_73 : Sd gd_mt M75 73 (i_goto 20) := sd_goto dX1_look_73 (by decide)
theorem r75_76 : Sd gd_mt M75 76 (i_ild 2 77) := sd_iload_n dX1_look_76 rfl rfl
theorem r75_77 : Sd gd_mt M75 77 (i_ifne 84 80) := sd_ifne dX1_look_77 (by decide) rfl
theorem r75_80 : Sd gd_mt M75 80 (i_ild 3 81) := sd_iload_n dX1_look_80 rfl rfl
theorem r75_81 : Sd gd_mt M75 81 (i_goto 86) := sd_goto dX1_look_81 (by decide)
theorem r75_84 : Sd gd_mt M75 84 (i_ild 4 86) := sd_iload dX1_look_84 rfl
theorem r75_86 : Sd gd_mt M75 86 (i_msk [false, false, false, false, false, false, false] (i_iret)) := sd_msk _ (sd_iret rfl dX1_look_86)
def cl75_0 : List (Nat × gd_I) := [(0, i_ald 0 1), (1, i_ild 1 2), (2, i_cV 64 1 1 5), (5, i_msk [true, true, true, false, false, false, false] (i_ald 0 6)), (6, i_ild 2 7), (7, i_psh (.int 0) 8), (8, i_psh (.int 1) 9), (9, i_cV 53 3 1 12), (12, i_msk [true, true, true, false, false, false, false] (i_psh (.int (-1)) 13)), (13, i_ist 3 14), (14, i_psh (.int (-1)) 15), (15, i_ist 4 17), (17, i_psh (.int 1) 18), (18, i_ist 5 20), (20, i_msk [true, true, true, true, true, true, false] (i_ild 5 22)), (22, i_psh (.int 12) 24), (24, i_icgt 76 27), (27, i_ald 0 28), (28, i_ild 5 30), (30, i_cV 76 1 1 33), (33, i_msk [true, true, true, true, true, true, false] (i_ifeq 39 36)), (36, i_goto 70), (39, i_ald 0 40), (40, i_ild 1 41), (41, i_ild 5 43), (43, i_cV 77 2 1 46), (46, i_msk [true, true, true, true, true, true, false] (i_ist 6 48)), (48, i_ild 3 49), (49, i_psh (.int (-1)) 50), (50, i_iceq 63 53), (53, i_ild 6 55), (55, i_ild 4 57), (57, i_iclt 63 60), (60, i_goto 70), (63, i_msk [true, true, true, false, false, true, true] (i_ild 5 65)), (65, i_ist 3 66), (66, i_ild 6 68), (68, i_ist 4 70), (70, i_msk [true, true, true, true, true, true, false] (i_inc 5 1 73)), (73, i_goto 20), (76, i_ild 2 77), (77, i_ifne 84 80), (80, i_ild 3 81), (81, i_goto 86), (84, i_ild 4 86), (86, i_msk [false, false, false, false, false, false, false] (i_iret))]
theorem cs75_0 : ∀ q ∈ cl75_0, Sd gd_mt M75 q.1 q.2 := gd_ac r75_0 (gd_ac r75_1 (gd_ac r75_2 (gd_ac r75_5 (gd_ac r75_6 (gd_ac r75_7 (gd_ac r75_8 (gd_ac r75_9 (gd_ac r75_12 (gd_ac r75_13 (gd_ac r75_14 (gd_ac r75_15 (gd_ac r75_17 (gd_ac r75_18 (gd_ac r75_20 (gd_ac r75_22 (gd_ac r75_24 (gd_ac r75_27 (gd_ac r75_28 (gd_ac r75_30 (gd_ac r75_33 (gd_ac r75_36 (gd_ac r75_39 (gd_ac r75_40 (gd_ac r75_41 (gd_ac r75_43 (gd_ac r75_46 (gd_ac r75_48 (gd_ac r75_49 (gd_ac r75_50 (gd_ac r75_53 (gd_ac r75_55 (gd_ac r75_57 (gd_ac r75_60 (gd_ac r75_63 (gd_ac r75_65 (gd_ac r75_66 (gd_ac r75_68 (gd_ac r75_70 (gd_ac r75_73 (gd_ac r75_76 (gd_ac r75_77 (gd_ac r75_80 (gd_ac r75_81 (gd_ac r75_84 (gd_ac r75_86 (gd_an))))))))))))))))))))))))))))))))))))))))))))))
def cd75 (pc : Nat) : gd_I := lkI cl75_0 pc
theorem cg75 : ∀ pc, Sd gd_mt M75 pc (cd75 pc) := sd_lk cs75_0
theorem r76_0 : Sd gd_mt M76 0 (i_psh (.int 0) 1) := sd_iconst dX1_isTold_0 (by decide) rfl
theorem r76_1 : Sd gd_mt M76 1 (i_ist 2 2) := sd_istore_n dX1_isTold_1 rfl (by decide) rfl
theorem r76_2 : Sd gd_mt M76 2 (i_msk [true, true, true] (i_ild 2 3)) := sd_msk _ (sd_iload_n dX1_isTold_2 rfl rfl)
theorem r76_3 : Sd gd_mt M76 3 (i_ald 0 4) := sd_aload_n dX1_isTold_3 rfl rfl
theorem r76_4 : Sd gd_mt M76 4 (i_getI 1 18 7) := sd_getI ck1 (by decide) rfl (.inl q374) dX1_isTold_4 rfl
theorem r76_7 : Sd gd_mt M76 7 (i_icge 28 10) := sd_icge dX1_isTold_7 (by decide) rfl
theorem r76_10 : Sd gd_mt M76 10 (i_ald 0 11) := sd_aload_n dX1_isTold_10 rfl rfl
theorem r76_11 : Sd gd_mt M76 11 (i_getR 1 8 14) := sd_getR ck1 (by decide) rfl (.inl q364) dX1_isTold_11 rfl
theorem r76_14 : Sd gd_mt M76 14 (i_ild 2 15) := sd_iload_n dX1_isTold_14 rfl rfl
theorem r76_15 : Sd gd_mt M76 15 (i_aldI 31 16) := sd_iald dX1_isTold_15 rfl
theorem r76_16 : Sd gd_mt M76 16 (i_ild 1 17) := sd_iload_n dX1_isTold_16 rfl rfl
theorem r76_17 : Sd gd_mt M76 17 (i_icne 22 20) := sd_icne dX1_isTold_17 (by decide) rfl
theorem r76_20 : Sd gd_mt M76 20 (i_psh (.int 1) 21) := sd_iconst dX1_isTold_20 (by decide) rfl
theorem r76_21 : Sd gd_mt M76 21 (i_zret) := sd_zret rfl dX1_isTold_21
theorem r76_22 : Sd gd_mt M76 22 (i_inc 2 1 25) := sd_iinc dX1_isTold_22 (by decide) (by decide) rfl
theorem r76_25 : Sd gd_mt M76 25 (i_goto 2) := sd_goto dX1_isTold_25 (by decide)
theorem r76_28 : Sd gd_mt M76 28 (i_psh (.int 0) 29) := sd_iconst dX1_isTold_28 (by decide) rfl
theorem r76_29 : Sd gd_mt M76 29 (i_zret) := sd_zret rfl dX1_isTold_29
def cl76_0 : List (Nat × gd_I) := [(0, i_psh (.int 0) 1), (1, i_ist 2 2), (2, i_msk [true, true, true] (i_ild 2 3)), (3, i_ald 0 4), (4, i_getI 1 18 7), (7, i_icge 28 10), (10, i_ald 0 11), (11, i_getR 1 8 14), (14, i_ild 2 15), (15, i_aldI 31 16), (16, i_ild 1 17), (17, i_icne 22 20), (20, i_psh (.int 1) 21), (21, i_zret), (22, i_inc 2 1 25), (25, i_goto 2), (28, i_psh (.int 0) 29), (29, i_zret)]
theorem cs76_0 : ∀ q ∈ cl76_0, Sd gd_mt M76 q.1 q.2 := gd_ac r76_0 (gd_ac r76_1 (gd_ac r76_2 (gd_ac r76_3 (gd_ac r76_4 (gd_ac r76_7 (gd_ac r76_10 (gd_ac r76_11 (gd_ac r76_14 (gd_ac r76_15 (gd_ac r76_16 (gd_ac r76_17 (gd_ac r76_20 (gd_ac r76_21 (gd_ac r76_22 (gd_ac r76_25 (gd_ac r76_28 (gd_ac r76_29 (gd_an))))))))))))))))))
def cd76 (pc : Nat) : gd_I := lkI cl76_0 pc
theorem cg76 : ∀ pc, Sd gd_mt M76 pc (cd76 pc) := sd_lk cs76_0
theorem r77_0 : Sd gd_mt M77 0 (i_psh (.int 0) 1) := sd_iconst dX1_worstAt_0 (by decide) rfl
theorem r77_1 : Sd gd_mt M77 1 (i_ist 3 2) := sd_istore_n dX1_worstAt_1 rfl (by decide) rfl
theorem r77_2 : Sd gd_mt M77 2 (i_psh (.int 0) 3) := sd_iconst dX1_worstAt_2 (by decide) rfl
theorem r77_3 : Sd gd_mt M77 3 (i_ist 4 5) := sd_istore dX1_worstAt_3 (by decide) rfl
theorem r77_5 : Sd gd_mt M77 5 (i_msk [true, true, true, true, true] (i_ild 4 7)) := sd_msk _ (sd_iload dX1_worstAt_5 rfl)
theorem r77_7 : Sd gd_mt M77 7 (i_psh (.int 999) 10) := sd_sipush dX1_worstAt_7 (by decide) rfl
theorem r77_10 : Sd gd_mt M77 10 (i_icgt 27 13) := sd_icgt dX1_worstAt_10 (by decide) rfl
theorem r77_13 : Sd gd_mt M77 13 (i_ald 0 14) := sd_aload_n dX1_worstAt_13 rfl rfl
theorem r77_14 : Sd gd_mt M77 14 (i_getR 1 11 17) := sd_getR ck1 (by decide) rfl (.inl q367) dX1_worstAt_14 rfl
theorem r77_17 : Sd gd_mt M77 17 (i_ild 4 19) := sd_iload dX1_worstAt_17 rfl
theorem r77_19 : Sd gd_mt M77 19 (i_psh (.int 0) 20) := sd_iconst dX1_worstAt_19 (by decide) rfl
theorem r77_20 : Sd gd_mt M77 20 (i_astI 21) := sd_astI dX1_worstAt_20 rfl
theorem r77_21 : Sd gd_mt M77 21 (i_inc 4 1 24) := sd_iinc dX1_worstAt_21 (by decide) (by decide) rfl
theorem r77_24 : Sd gd_mt M77 24 (i_goto 5) := sd_goto dX1_worstAt_24 (by decide)
theorem r77_27 : Sd gd_mt M77 27 (i_psh (.int 0) 28) := sd_iconst dX1_worstAt_27 (by decide) rfl
theorem r77_28 : Sd gd_mt M77 28 (i_ist 4 30) := sd_istore dX1_worstAt_28 (by decide) rfl
theorem r77_30 : Sd gd_mt M77 30 (i_msk [true, true, true, true, true] (i_ild 4 32)) := sd_msk _ (sd_iload dX1_worstAt_30 rfl)
theorem r77_32 : Sd gd_mt M77 32 (i_psh (.int 100) 34) := sd_bipush dX1_worstAt_32 (by decide) rfl
theorem r77_34 : Sd gd_mt M77 34 (i_icge 82 37) := sd_icge dX1_worstAt_34 (by decide) rfl
theorem r77_37 : Sd gd_mt M77 37 (i_ald 0 38) := sd_aload_n dX1_worstAt_37 rfl rfl
theorem r77_38 : Sd gd_mt M77 38 (i_ild 1 39) := sd_iload_n dX1_worstAt_38 rfl rfl
theorem r77_39 : Sd gd_mt M77 39 (i_ild 4 41) := sd_iload dX1_worstAt_39 rfl
theorem r77_41 : Sd gd_mt M77 41 (i_psh (.int 10) 43) := sd_bipush dX1_worstAt_41 (by decide) rfl
theorem r77_43 : Sd gd_mt M77 43 (i_idiv 44) := sd_idiv dX1_worstAt_43 rfl
theorem r77_44 : Sd gd_mt M77 44 (i_ild 4 46) := sd_iload dX1_worstAt_44 rfl
theorem r77_46 : Sd gd_mt M77 46 (i_psh (.int 10) 48) := sd_bipush dX1_worstAt_46 (by decide) rfl
theorem r77_48 : Sd gd_mt M77 48 (i_irem 49) := sd_irem dX1_worstAt_48 rfl
theorem r77_49 : Sd gd_mt M77 49 (i_cV 74 3 1 52) := sd_cV2 e74 cal74 q1298 q1300 (rfl : gd_cl 1 = some _) qs20 dX1_worstAt_49 rfl
theorem r77_52 : Sd gd_mt M77 52 (i_msk [true, true, true, true, true] (i_ifeq 76 55)) := sd_msk _ (sd_ifeq dX1_worstAt_52 (by decide) rfl)
theorem r77_55 : Sd gd_mt M77 55 (i_ild 3 56) := sd_iload_n dX1_worstAt_55 rfl rfl
theorem r77_56 : Sd gd_mt M77 56 (i_ald 0 57) := sd_aload_n dX1_worstAt_56 rfl rfl
theorem r77_57 : Sd gd_mt M77 57 (i_getR 1 11 60) := sd_getR ck1 (by decide) rfl (.inl q367) dX1_worstAt_57 rfl
theorem r77_60 : Sd gd_mt M77 60 (i_ald 0 61) := sd_aload_n dX1_worstAt_60 rfl rfl
theorem r77_61 : Sd gd_mt M77 61 (i_getR 1 10 64) := sd_getR ck1 (by decide) rfl (.inl q366) dX1_worstAt_61 rfl
theorem r77_64 : Sd gd_mt M77 64 (i_ild 2 65) := sd_iload_n dX1_worstAt_64 rfl rfl
theorem r77_65 : Sd gd_mt M77 65 (i_aldI 31 66) := sd_iald dX1_worstAt_65 rfl
theorem r77_66 : Sd gd_mt M77 66 (i_dup2 67) := sd_dup2 dX1_worstAt_66 rfl
theorem r77_67 : Sd gd_mt M77 67 (i_aldI 31 68) := sd_iald dX1_worstAt_67 rfl
theorem r77_68 : Sd gd_mt M77 68 (i_psh (.int 1) 69) := sd_iconst dX1_worstAt_68 (by decide) rfl
theorem r77_69 : Sd gd_mt M77 69 (i_iadd 70) := sd_iadd dX1_worstAt_69 rfl
theorem r77_70 : Sd gd_mt M77 70 (i_dupx2 71) := sd_dupx2 dX1_worstAt_70 rfl
theorem r77_71 : Sd gd_mt M77 71 (i_astI 72) := sd_astI dX1_worstAt_71 rfl
theorem r77_72 : Sd gd_mt M77 72 (i_mmax 75) := sd_mmax q477 q478 q106 q479 dX1_worstAt_72 rfl
theorem r77_75 : Sd gd_mt M77 75 (i_msk [true, true, true, false, true] (i_ist 3 76)) := sd_msk _ (sd_istore_n dX1_worstAt_75 rfl (by decide) rfl)
theorem r77_76 : Sd gd_mt M77 76 (i_msk [true, true, true, true, true] (i_inc 4 1 79)) := sd_msk _ (sd_iinc dX1_worstAt_76 (by decide) (by decide) rfl)
theorem r77_79 : Sd gd_mt M77 79 (i_goto 30) := sd_goto dX1_worstAt_79 (by decide)
theorem r77_82 : Sd gd_mt M77 82 (i_ild 3 83) := sd_iload_n dX1_worstAt_82 rfl rfl
theorem r77_83 : Sd gd_mt M77 83 (i_iret) := sd_iret rfl dX1_worstAt_83
def cl77_0 : List (Nat × gd_I) := [(0, i_psh (.int 0) 1), (1, i_ist 3 2), (2, i_psh (.int 0) 3), (3, i_ist 4 5), (5, i_msk [true, true, true, true, true] (i_ild 4 7)), (7, i_psh (.int 999) 10), (10, i_icgt 27 13), (13, i_ald 0 14), (14, i_getR 1 11 17), (17, i_ild 4 19), (19, i_psh (.int 0) 20), (20, i_astI 21), (21, i_inc 4 1 24), (24, i_goto 5), (27, i_psh (.int 0) 28), (28, i_ist 4 30), (30, i_msk [true, true, true, true, true] (i_ild 4 32)), (32, i_psh (.int 100) 34), (34, i_icge 82 37), (37, i_ald 0 38), (38, i_ild 1 39), (39, i_ild 4 41), (41, i_psh (.int 10) 43), (43, i_idiv 44), (44, i_ild 4 46), (46, i_psh (.int 10) 48), (48, i_irem 49), (49, i_cV 74 3 1 52), (52, i_msk [true, true, true, true, true] (i_ifeq 76 55)), (55, i_ild 3 56), (56, i_ald 0 57), (57, i_getR 1 11 60), (60, i_ald 0 61), (61, i_getR 1 10 64), (64, i_ild 2 65), (65, i_aldI 31 66), (66, i_dup2 67), (67, i_aldI 31 68), (68, i_psh (.int 1) 69), (69, i_iadd 70), (70, i_dupx2 71), (71, i_astI 72), (72, i_mmax 75), (75, i_msk [true, true, true, false, true] (i_ist 3 76)), (76, i_msk [true, true, true, true, true] (i_inc 4 1 79)), (79, i_goto 30), (82, i_ild 3 83), (83, i_iret)]
theorem cs77_0 : ∀ q ∈ cl77_0, Sd gd_mt M77 q.1 q.2 := gd_ac r77_0 (gd_ac r77_1 (gd_ac r77_2 (gd_ac r77_3 (gd_ac r77_5 (gd_ac r77_7 (gd_ac r77_10 (gd_ac r77_13 (gd_ac r77_14 (gd_ac r77_17 (gd_ac r77_19 (gd_ac r77_20 (gd_ac r77_21 (gd_ac r77_24 (gd_ac r77_27 (gd_ac r77_28 (gd_ac r77_30 (gd_ac r77_32 (gd_ac r77_34 (gd_ac r77_37 (gd_ac r77_38 (gd_ac r77_39 (gd_ac r77_41 (gd_ac r77_43 (gd_ac r77_44 (gd_ac r77_46 (gd_ac r77_48 (gd_ac r77_49 (gd_ac r77_52 (gd_ac r77_55 (gd_ac r77_56 (gd_ac r77_57 (gd_ac r77_60 (gd_ac r77_61 (gd_ac r77_64 (gd_ac r77_65 (gd_ac r77_66 (gd_ac r77_67 (gd_ac r77_68 (gd_ac r77_69 (gd_ac r77_70 (gd_ac r77_71 (gd_ac r77_72 (gd_ac r77_75 (gd_ac r77_76 (gd_ac r77_79 (gd_ac r77_82 (gd_ac r77_83 (gd_an))))))))))))))))))))))))))))))))))))))))))))))))
def cd77 (pc : Nat) : gd_I := lkI cl77_0 pc
theorem cg77 : ∀ pc, Sd gd_mt M77 pc (cd77 pc) := sd_lk cs77_0
theorem r78_0 : Sd gd_mt M78 0 (i_ald 0 1) := sd_aload_n dX1_run_0 rfl rfl
theorem r78_1 : Sd gd_mt M78 1 (i_ild 1 2) := sd_iload_n dX1_run_1 rfl rfl
theorem r78_2 : Sd gd_mt M78 2 (i_psh (.int 0) 3) := sd_iconst dX1_run_2 (by decide) rfl
theorem r78_3 : Sd gd_mt M78 3 (i_psh (.int 12) 5) := sd_bipush dX1_run_3 (by decide) rfl
theorem r78_5 : Sd gd_mt M78 5 (i_cV 53 3 1 8) := sd_cV2 e53 cal53 q513 q515 (rfl : gd_cl 1 = some _) qs2 dX1_run_5 rfl
theorem r78_8 : Sd gd_mt M78 8 (i_msk [true, true, true, true, true, false, false, false, false, false] (i_ald 0 9)) := sd_msk _ (sd_aload_n dX1_run_8 rfl rfl)
theorem r78_9 : Sd gd_mt M78 9 (i_ild 2 10) := sd_iload_n dX1_run_9 rfl rfl
theorem r78_10 : Sd gd_mt M78 10 (i_psh (.int 0) 11) := sd_iconst dX1_run_10 (by decide) rfl
theorem r78_11 : Sd gd_mt M78 11 (i_psh (.int 12) 13) := sd_bipush dX1_run_11 (by decide) rfl
theorem r78_13 : Sd gd_mt M78 13 (i_cV 53 3 1 16) := sd_cV2 e53 cal53 q513 q515 (rfl : gd_cl 1 = some _) qs2 dX1_run_13 rfl
theorem r78_16 : Sd gd_mt M78 16 (i_msk [true, true, true, true, true, false, false, false, false, false] (i_ald 0 17)) := sd_msk _ (sd_aload_n dX1_run_16 rfl rfl)
theorem r78_17 : Sd gd_mt M78 17 (i_ild 3 18) := sd_iload_n dX1_run_17 rfl rfl
theorem r78_18 : Sd gd_mt M78 18 (i_psh (.int 0) 19) := sd_iconst dX1_run_18 (by decide) rfl
theorem r78_19 : Sd gd_mt M78 19 (i_psh (.int 16) 21) := sd_bipush dX1_run_19 (by decide) rfl
theorem r78_21 : Sd gd_mt M78 21 (i_cV 53 3 1 24) := sd_cV2 e53 cal53 q513 q515 (rfl : gd_cl 1 = some _) qs2 dX1_run_21 rfl
theorem r78_24 : Sd gd_mt M78 24 (i_msk [true, true, true, true, true, false, false, false, false, false] (i_ald 0 25)) := sd_msk _ (sd_aload_n dX1_run_24 rfl rfl)
theorem r78_25 : Sd gd_mt M78 25 (i_ild 4 27) := sd_iload dX1_run_25 rfl
theorem r78_27 : Sd gd_mt M78 27 (i_psh (.int 0) 28) := sd_iconst dX1_run_27 (by decide) rfl
theorem r78_28 : Sd gd_mt M78 28 (i_psh (.int 1) 29) := sd_iconst dX1_run_28 (by decide) rfl
theorem r78_29 : Sd gd_mt M78 29 (i_cV 53 3 1 32) := sd_cV2 e53 cal53 q513 q515 (rfl : gd_cl 1 = some _) qs2 dX1_run_29 rfl
theorem r78_32 : Sd gd_mt M78 32 (i_msk [true, true, true, true, true, false, false, false, false, false] (i_psh (.int 0) 33)) := sd_msk _ (sd_iconst dX1_run_32 (by decide) rfl)
theorem r78_33 : Sd gd_mt M78 33 (i_ist 5 35) := sd_istore dX1_run_33 (by decide) rfl
theorem r78_35 : Sd gd_mt M78 35 (i_msk [true, true, true, true, true, true, false, false, false, false] (i_ild 5 37)) := sd_msk _ (sd_iload dX1_run_35 rfl)
theorem r78_37 : Sd gd_mt M78 37 (i_psh (.int 12) 39) := sd_bipush dX1_run_37 (by decide) rfl
theorem r78_39 : Sd gd_mt M78 39 (i_icgt 65 42) := sd_icgt dX1_run_39 (by decide) rfl
theorem r78_42 : Sd gd_mt M78 42 (i_ald 0 43) := sd_aload_n dX1_run_42 rfl rfl
theorem r78_43 : Sd gd_mt M78 43 (i_getR 1 14 46) := sd_getR ck1 (by decide) rfl (.inl q370) dX1_run_43 rfl
theorem r78_46 : Sd gd_mt M78 46 (i_ild 5 48) := sd_iload dX1_run_46 rfl
theorem r78_48 : Sd gd_mt M78 48 (i_ild 5 50) := sd_iload dX1_run_48 rfl
theorem r78_50 : Sd gd_mt M78 50 (i_ifne 57 53) := sd_ifne dX1_run_50 (by decide) rfl
theorem r78_53 : Sd gd_mt M78 53 (i_psh (.long 1) 54) := sd_lconst dX1_run_53 (by decide) rfl
theorem r78_54 : Sd gd_mt M78 54 (i_goto 58) := sd_goto dX1_run_54 (by decide)
theorem r78_57 : Sd gd_mt M78 57 (i_psh (.long 0) 58) := sd_lconst dX1_run_57 (by decide) rfl
theorem r78_58 : Sd gd_mt M78 58 (i_msk [true, true, true, true, true, true, false, false, false, false] (i_astJ 59)) := sd_msk _ (sd_astJ dX1_run_58 rfl)
theorem r78_59 : Sd gd_mt M78 59 (i_inc 5 1 62) := sd_iinc dX1_run_59 (by decide) (by decide) rfl
theorem r78_62 : Sd gd_mt M78 62 (i_goto 35) := sd_goto dX1_run_62 (by decide)
theorem r78_65 : Sd gd_mt M78 65 (i_psh (.int 0) 66) := sd_iconst dX1_run_65 (by decide) rfl
theorem r78_66 : Sd gd_mt M78 66 (i_ist 5 68) := sd_istore dX1_run_66 (by decide) rfl
theorem r78_68 : Sd gd_mt M78 68 (i_msk [true, true, true, true, true, true, false, false, false, false] (i_ild 5 70)) := sd_msk _ (sd_iload dX1_run_68 rfl)
theorem r78_70 : Sd gd_mt M78 70 (i_ild 1 71) := sd_iload_n dX1_run_70 rfl rfl
theorem r78_71 : Sd gd_mt M78 71 (i_icge 159 74) := sd_icge dX1_run_71 (by decide) rfl
theorem r78_74 : Sd gd_mt M78 74 (i_psh (.long 0) 75) := sd_lconst dX1_run_74 (by decide) rfl
theorem r78_75 : Sd gd_mt M78 75 (i_lst 6 77) := sd_lstore dX1_run_75 (by decide) rfl
theorem r78_77 : Sd gd_mt M78 77 (i_psh (.int 0) 78) := sd_iconst dX1_run_77 (by decide) rfl
theorem r78_78 : Sd gd_mt M78 78 (i_ist 8 80) := sd_istore dX1_run_78 (by decide) rfl
theorem r78_80 : Sd gd_mt M78 80 (i_msk [true, true, true, true, true, true, true, false, true, false] (i_ild 8 82)) := sd_msk _ (sd_iload dX1_run_80 rfl)
theorem r78_82 : Sd gd_mt M78 82 (i_ild 2 83) := sd_iload_n dX1_run_82 rfl rfl
theorem r78_83 : Sd gd_mt M78 83 (i_icge 110 86) := sd_icge dX1_run_83 (by decide) rfl
def cl78_0 : List (Nat × gd_I) := [(0, i_ald 0 1), (1, i_ild 1 2), (2, i_psh (.int 0) 3), (3, i_psh (.int 12) 5), (5, i_cV 53 3 1 8), (8, i_msk [true, true, true, true, true, false, false, false, false, false] (i_ald 0 9)), (9, i_ild 2 10), (10, i_psh (.int 0) 11), (11, i_psh (.int 12) 13), (13, i_cV 53 3 1 16), (16, i_msk [true, true, true, true, true, false, false, false, false, false] (i_ald 0 17)), (17, i_ild 3 18), (18, i_psh (.int 0) 19), (19, i_psh (.int 16) 21), (21, i_cV 53 3 1 24), (24, i_msk [true, true, true, true, true, false, false, false, false, false] (i_ald 0 25)), (25, i_ild 4 27), (27, i_psh (.int 0) 28), (28, i_psh (.int 1) 29), (29, i_cV 53 3 1 32), (32, i_msk [true, true, true, true, true, false, false, false, false, false] (i_psh (.int 0) 33)), (33, i_ist 5 35), (35, i_msk [true, true, true, true, true, true, false, false, false, false] (i_ild 5 37)), (37, i_psh (.int 12) 39), (39, i_icgt 65 42), (42, i_ald 0 43), (43, i_getR 1 14 46), (46, i_ild 5 48), (48, i_ild 5 50), (50, i_ifne 57 53), (53, i_psh (.long 1) 54), (54, i_goto 58), (57, i_psh (.long 0) 58), (58, i_msk [true, true, true, true, true, true, false, false, false, false] (i_astJ 59)), (59, i_inc 5 1 62), (62, i_goto 35), (65, i_psh (.int 0) 66), (66, i_ist 5 68), (68, i_msk [true, true, true, true, true, true, false, false, false, false] (i_ild 5 70)), (70, i_ild 1 71), (71, i_icge 159 74), (74, i_psh (.long 0) 75), (75, i_lst 6 77), (77, i_psh (.int 0) 78), (78, i_ist 8 80), (80, i_msk [true, true, true, true, true, true, true, false, true, false] (i_ild 8 82)), (82, i_ild 2 83), (83, i_icge 110 86)]
theorem cs78_0 : ∀ q ∈ cl78_0, Sd gd_mt M78 q.1 q.2 := gd_ac r78_0 (gd_ac r78_1 (gd_ac r78_2 (gd_ac r78_3 (gd_ac r78_5 (gd_ac r78_8 (gd_ac r78_9 (gd_ac r78_10 (gd_ac r78_11 (gd_ac r78_13 (gd_ac r78_16 (gd_ac r78_17 (gd_ac r78_18 (gd_ac r78_19 (gd_ac r78_21 (gd_ac r78_24 (gd_ac r78_25 (gd_ac r78_27 (gd_ac r78_28 (gd_ac r78_29 (gd_ac r78_32 (gd_ac r78_33 (gd_ac r78_35 (gd_ac r78_37 (gd_ac r78_39 (gd_ac r78_42 (gd_ac r78_43 (gd_ac r78_46 (gd_ac r78_48 (gd_ac r78_50 (gd_ac r78_53 (gd_ac r78_54 (gd_ac r78_57 (gd_ac r78_58 (gd_ac r78_59 (gd_ac r78_62 (gd_ac r78_65 (gd_ac r78_66 (gd_ac r78_68 (gd_ac r78_70 (gd_ac r78_71 (gd_ac r78_74 (gd_ac r78_75 (gd_ac r78_77 (gd_ac r78_78 (gd_ac r78_80 (gd_ac r78_82 (gd_ac r78_83 (gd_an))))))))))))))))))))))))))))))))))))))))))))))))
theorem r78_86 : Sd gd_mt M78 86 (i_lld 6 88) := sd_lload dX1_run_86 rfl
theorem r78_88 : Sd gd_mt M78 88 (i_ald 0 89) := sd_aload_n dX1_run_88 rfl rfl
theorem r78_89 : Sd gd_mt M78 89 (i_getR 1 14 92) := sd_getR ck1 (by decide) rfl (.inl q370) dX1_run_89 rfl
theorem r78_92 : Sd gd_mt M78 92 (i_ild 8 94) := sd_iload dX1_run_92 rfl
theorem r78_94 : Sd gd_mt M78 94 (i_aldJ 95) := sd_lald dX1_run_94 rfl
theorem r78_95 : Sd gd_mt M78 95 (i_psh (.int 16) 97) := sd_bipush dX1_run_95 (by decide) rfl
theorem r78_97 : Sd gd_mt M78 97 (i_ild 3 98) := sd_iload_n dX1_run_97 rfl rfl
theorem r78_98 : Sd gd_mt M78 98 (i_isub 99) := sd_isub dX1_run_98 rfl
theorem r78_99 : Sd gd_mt M78 99 (i_i2l 100) := sd_i2l dX1_run_99 rfl
theorem r78_100 : Sd gd_mt M78 100 (i_lmul 101) := sd_lmul dX1_run_100 rfl
theorem r78_101 : Sd gd_mt M78 101 (i_ladd 102) := sd_ladd dX1_run_101 rfl
theorem r78_102 : Sd gd_mt M78 102 (i_lst 6 104) := sd_lstore dX1_run_102 (by decide) rfl
theorem r78_104 : Sd gd_mt M78 104 (i_inc 8 1 107) := sd_iinc dX1_run_104 (by decide) (by decide) rfl
theorem r78_107 : Sd gd_mt M78 107 (i_goto 80) := sd_goto dX1_run_107 (by decide)
theorem r78_110 : Sd gd_mt M78 110 (i_ild 2 111) := sd_iload_n dX1_run_110 rfl rfl
theorem r78_111 : Sd gd_mt M78 111 (i_psh (.int 1) 112) := sd_iconst dX1_run_111 (by decide) rfl
theorem r78_112 : Sd gd_mt M78 112 (i_isub 113) := sd_isub dX1_run_112 rfl
theorem r78_113 : Sd gd_mt M78 113 (i_ist 8 115) := sd_istore dX1_run_113 (by decide) rfl
theorem r78_115 : Sd gd_mt M78 115 (i_msk [true, true, true, true, true, true, true, false, true, false] (i_ild 8 117)) := sd_msk _ (sd_iload dX1_run_115 rfl)
theorem r78_117 : Sd gd_mt M78 117 (i_ifle 145 120) := sd_ifle dX1_run_117 (by decide) rfl
theorem r78_120 : Sd gd_mt M78 120 (i_ald 0 121) := sd_aload_n dX1_run_120 rfl rfl
theorem r78_121 : Sd gd_mt M78 121 (i_getR 1 14 124) := sd_getR ck1 (by decide) rfl (.inl q370) dX1_run_121 rfl
theorem r78_124 : Sd gd_mt M78 124 (i_ild 8 126) := sd_iload dX1_run_124 rfl
theorem r78_126 : Sd gd_mt M78 126 (i_ald 0 127) := sd_aload_n dX1_run_126 rfl rfl
theorem r78_127 : Sd gd_mt M78 127 (i_getR 1 14 130) := sd_getR ck1 (by decide) rfl (.inl q370) dX1_run_127 rfl
theorem r78_130 : Sd gd_mt M78 130 (i_ild 8 132) := sd_iload dX1_run_130 rfl
theorem r78_132 : Sd gd_mt M78 132 (i_psh (.int 1) 133) := sd_iconst dX1_run_132 (by decide) rfl
theorem r78_133 : Sd gd_mt M78 133 (i_isub 134) := sd_isub dX1_run_133 rfl
theorem r78_134 : Sd gd_mt M78 134 (i_aldJ 135) := sd_lald dX1_run_134 rfl
theorem r78_135 : Sd gd_mt M78 135 (i_ild 3 136) := sd_iload_n dX1_run_135 rfl rfl
theorem r78_136 : Sd gd_mt M78 136 (i_i2l 137) := sd_i2l dX1_run_136 rfl
theorem r78_137 : Sd gd_mt M78 137 (i_lmul 138) := sd_lmul dX1_run_137 rfl
theorem r78_138 : Sd gd_mt M78 138 (i_astJ 139) := sd_astJ dX1_run_138 rfl
theorem r78_139 : Sd gd_mt M78 139 (i_inc 8 (-1) 142) := sd_iinc dX1_run_139 (by decide) (by decide) rfl
theorem r78_142 : Sd gd_mt M78 142 (i_goto 115) := sd_goto dX1_run_142 (by decide)
theorem r78_145 : Sd gd_mt M78 145 (i_ald 0 146) := sd_aload_n dX1_run_145 rfl rfl
theorem r78_146 : Sd gd_mt M78 146 (i_getR 1 14 149) := sd_getR ck1 (by decide) rfl (.inl q370) dX1_run_146 rfl
theorem r78_149 : Sd gd_mt M78 149 (i_psh (.int 0) 150) := sd_iconst dX1_run_149 (by decide) rfl
theorem r78_150 : Sd gd_mt M78 150 (i_lld 6 152) := sd_lload dX1_run_150 rfl
theorem r78_152 : Sd gd_mt M78 152 (i_astJ 153) := sd_astJ dX1_run_152 rfl
theorem r78_153 : Sd gd_mt M78 153 (i_inc 5 1 156) := sd_iinc dX1_run_153 (by decide) (by decide) rfl
theorem r78_156 : Sd gd_mt M78 156 (i_goto 68) := sd_goto dX1_run_156 (by decide)
theorem r78_159 : Sd gd_mt M78 159 (i_psh (.long 0) 160) := sd_lconst dX1_run_159 (by decide) rfl
theorem r78_160 : Sd gd_mt M78 160 (i_lst 5 162) := sd_lstore dX1_run_160 (by decide) rfl
theorem r78_162 : Sd gd_mt M78 162 (i_psh (.long 1) 163) := sd_lconst dX1_run_162 (by decide) rfl
theorem r78_163 : Sd gd_mt M78 163 (i_psh (.int 4) 164) := sd_iconst dX1_run_163 (by decide) rfl
theorem r78_164 : Sd gd_mt M78 164 (i_ild 1 165) := sd_iload_n dX1_run_164 rfl rfl
theorem r78_165 : Sd gd_mt M78 165 (i_imul 166) := sd_imul dX1_run_165 rfl
def cl78_1 : List (Nat × gd_I) := [(86, i_lld 6 88), (88, i_ald 0 89), (89, i_getR 1 14 92), (92, i_ild 8 94), (94, i_aldJ 95), (95, i_psh (.int 16) 97), (97, i_ild 3 98), (98, i_isub 99), (99, i_i2l 100), (100, i_lmul 101), (101, i_ladd 102), (102, i_lst 6 104), (104, i_inc 8 1 107), (107, i_goto 80), (110, i_ild 2 111), (111, i_psh (.int 1) 112), (112, i_isub 113), (113, i_ist 8 115), (115, i_msk [true, true, true, true, true, true, true, false, true, false] (i_ild 8 117)), (117, i_ifle 145 120), (120, i_ald 0 121), (121, i_getR 1 14 124), (124, i_ild 8 126), (126, i_ald 0 127), (127, i_getR 1 14 130), (130, i_ild 8 132), (132, i_psh (.int 1) 133), (133, i_isub 134), (134, i_aldJ 135), (135, i_ild 3 136), (136, i_i2l 137), (137, i_lmul 138), (138, i_astJ 139), (139, i_inc 8 (-1) 142), (142, i_goto 115), (145, i_ald 0 146), (146, i_getR 1 14 149), (149, i_psh (.int 0) 150), (150, i_lld 6 152), (152, i_astJ 153), (153, i_inc 5 1 156), (156, i_goto 68), (159, i_psh (.long 0) 160), (160, i_lst 5 162), (162, i_psh (.long 1) 163), (163, i_psh (.int 4) 164), (164, i_ild 1 165), (165, i_imul 166)]
theorem cs78_1 : ∀ q ∈ cl78_1, Sd gd_mt M78 q.1 q.2 := gd_ac r78_86 (gd_ac r78_88 (gd_ac r78_89 (gd_ac r78_92 (gd_ac r78_94 (gd_ac r78_95 (gd_ac r78_97 (gd_ac r78_98 (gd_ac r78_99 (gd_ac r78_100 (gd_ac r78_101 (gd_ac r78_102 (gd_ac r78_104 (gd_ac r78_107 (gd_ac r78_110 (gd_ac r78_111 (gd_ac r78_112 (gd_ac r78_113 (gd_ac r78_115 (gd_ac r78_117 (gd_ac r78_120 (gd_ac r78_121 (gd_ac r78_124 (gd_ac r78_126 (gd_ac r78_127 (gd_ac r78_130 (gd_ac r78_132 (gd_ac r78_133 (gd_ac r78_134 (gd_ac r78_135 (gd_ac r78_136 (gd_ac r78_137 (gd_ac r78_138 (gd_ac r78_139 (gd_ac r78_142 (gd_ac r78_145 (gd_ac r78_146 (gd_ac r78_149 (gd_ac r78_150 (gd_ac r78_152 (gd_ac r78_153 (gd_ac r78_156 (gd_ac r78_159 (gd_ac r78_160 (gd_ac r78_162 (gd_ac r78_163 (gd_ac r78_164 (gd_ac r78_165 (gd_an))))))))))))))))))))))))))))))))))))))))))))))))
theorem r78_166 : Sd gd_mt M78 166 (i_lshl 167) := sd_lshl dX1_run_166 rfl
theorem r78_167 : Sd gd_mt M78 167 (i_lst 7 169) := sd_lstore dX1_run_167 (by decide) rfl
theorem r78_169 : Sd gd_mt M78 169 (i_psh (.int 0) 170) := sd_iconst dX1_run_169 (by decide) rfl
theorem r78_170 : Sd gd_mt M78 170 (i_ist 9 172) := sd_istore dX1_run_170 (by decide) rfl
theorem r78_172 : Sd gd_mt M78 172 (i_msk [true, false, true, false, true, true, false, true, false, true] (i_ild 9 174)) := sd_msk _ (sd_iload dX1_run_172 rfl)
theorem r78_174 : Sd gd_mt M78 174 (i_ild 2 175) := sd_iload_n dX1_run_174 rfl rfl
theorem r78_175 : Sd gd_mt M78 175 (i_icge 196 178) := sd_icge dX1_run_175 (by decide) rfl
theorem r78_178 : Sd gd_mt M78 178 (i_lld 5 180) := sd_lload dX1_run_178 rfl
theorem r78_180 : Sd gd_mt M78 180 (i_ald 0 181) := sd_aload_n dX1_run_180 rfl rfl
theorem r78_181 : Sd gd_mt M78 181 (i_getR 1 14 184) := sd_getR ck1 (by decide) rfl (.inl q370) dX1_run_181 rfl
theorem r78_184 : Sd gd_mt M78 184 (i_ild 9 186) := sd_iload dX1_run_184 rfl
theorem r78_186 : Sd gd_mt M78 186 (i_aldJ 187) := sd_lald dX1_run_186 rfl
theorem r78_187 : Sd gd_mt M78 187 (i_ladd 188) := sd_ladd dX1_run_187 rfl
theorem r78_188 : Sd gd_mt M78 188 (i_lst 5 190) := sd_lstore dX1_run_188 (by decide) rfl
theorem r78_190 : Sd gd_mt M78 190 (i_inc 9 1 193) := sd_iinc dX1_run_190 (by decide) (by decide) rfl
theorem r78_193 : Sd gd_mt M78 193 (i_goto 172) := sd_goto dX1_run_193 (by decide)
theorem r78_196 : Sd gd_mt M78 196 (i_lld 7 198) := sd_lload dX1_run_196 rfl
theorem r78_198 : Sd gd_mt M78 198 (i_lld 5 200) := sd_lload dX1_run_198 rfl
theorem r78_200 : Sd gd_mt M78 200 (i_lsub 201) := sd_lsub dX1_run_200 rfl
theorem r78_201 : Sd gd_mt M78 201 (i_lld 7 203) := sd_lload dX1_run_201 rfl
theorem r78_203 : Sd gd_mt M78 203 (i_ild 4 205) := sd_iload dX1_run_203 rfl
theorem r78_205 : Sd gd_mt M78 205 (i_cS 79 3 208) := sd_cS2 e79 cal79 q1324 q1325 dX1_run_205 rfl
theorem r78_208 : Sd gd_mt M78 208 (i_msk [false, false, false, false, false, false, false, false, false, false] (i_lret)) := sd_msk _ (sd_lret rfl dX1_run_208)
def cl78_2 : List (Nat × gd_I) := [(166, i_lshl 167), (167, i_lst 7 169), (169, i_psh (.int 0) 170), (170, i_ist 9 172), (172, i_msk [true, false, true, false, true, true, false, true, false, true] (i_ild 9 174)), (174, i_ild 2 175), (175, i_icge 196 178), (178, i_lld 5 180), (180, i_ald 0 181), (181, i_getR 1 14 184), (184, i_ild 9 186), (186, i_aldJ 187), (187, i_ladd 188), (188, i_lst 5 190), (190, i_inc 9 1 193), (193, i_goto 172), (196, i_lld 7 198), (198, i_lld 5 200), (200, i_lsub 201), (201, i_lld 7 203), (203, i_ild 4 205), (205, i_cS 79 3 208), (208, i_msk [false, false, false, false, false, false, false, false, false, false] (i_lret))]
theorem cs78_2 : ∀ q ∈ cl78_2, Sd gd_mt M78 q.1 q.2 := gd_ac r78_166 (gd_ac r78_167 (gd_ac r78_169 (gd_ac r78_170 (gd_ac r78_172 (gd_ac r78_174 (gd_ac r78_175 (gd_ac r78_178 (gd_ac r78_180 (gd_ac r78_181 (gd_ac r78_184 (gd_ac r78_186 (gd_ac r78_187 (gd_ac r78_188 (gd_ac r78_190 (gd_ac r78_193 (gd_ac r78_196 (gd_ac r78_198 (gd_ac r78_200 (gd_ac r78_201 (gd_ac r78_203 (gd_ac r78_205 (gd_ac r78_208 (gd_an)))))))))))))))))))))))
def cd78 (pc : Nat) : gd_I := if pc < 86 then lkI cl78_0 pc else if pc < 166 then lkI cl78_1 pc else lkI cl78_2 pc
theorem cg78 : ∀ pc, Sd gd_mt M78 pc (cd78 pc) := by
  intro pc
  unfold cd78
  by_cases h0 : pc < 86
  · rw [if_pos h0]; exact sd_lk cs78_0 pc
  rw [if_neg h0]
  by_cases h1 : pc < 166
  · rw [if_pos h1]; exact sd_lk cs78_1 pc
  rw [if_neg h1]
  exact sd_lk cs78_2 pc
theorem r79_0 : Sd gd_mt M79 0 (i_lld 2 1) := sd_lload_n dX1_part_0 rfl rfl
theorem r79_1 : Sd gd_mt M79 1 (i_lst 5 3) := sd_lstore dX1_part_1 (by decide) rfl
theorem r79_3 : Sd gd_mt M79 3 (i_lld 0 4) := sd_lload_n dX1_part_3 rfl rfl
theorem r79_4 : Sd gd_mt M79 4 (i_lst 7 6) := sd_lstore dX1_part_4 (by decide) rfl
theorem r79_6 : Sd gd_mt M79 6 (i_msk [true, false, true, false, true, true, false, true, false, false, false] (i_lld 7 8)) := sd_msk _ (sd_lload dX1_part_6 rfl)
theorem r79_8 : Sd gd_mt M79 8 (i_psh (.long 0) 9) := sd_lconst dX1_part_8 (by decide) rfl
theorem r79_9 : Sd gd_mt M79 9 (i_lcmp 10) := sd_lcmp dX1_part_9 rfl
theorem r79_10 : Sd gd_mt M79 10 (i_ifeq 31 13) := sd_ifeq dX1_part_10 (by decide) rfl
theorem r79_13 : Sd gd_mt M79 13 (i_lld 5 15) := sd_lload dX1_part_13 rfl
theorem r79_15 : Sd gd_mt M79 15 (i_lld 7 17) := sd_lload dX1_part_15 rfl
theorem r79_17 : Sd gd_mt M79 17 (i_lrem 18) := sd_lrem dX1_part_17 rfl
theorem r79_18 : Sd gd_mt M79 18 (i_lst 9 20) := sd_lstore dX1_part_18 (by decide) rfl
theorem r79_20 : Sd gd_mt M79 20 (i_lld 7 22) := sd_lload dX1_part_20 rfl
theorem r79_22 : Sd gd_mt M79 22 (i_lst 5 24) := sd_lstore dX1_part_22 (by decide) rfl
theorem r79_24 : Sd gd_mt M79 24 (i_lld 9 26) := sd_lload dX1_part_24 rfl
theorem r79_26 : Sd gd_mt M79 26 (i_lst 7 28) := sd_lstore dX1_part_26 (by decide) rfl
theorem r79_28 : Sd gd_mt M79 28 (i_goto 6) := sd_goto dX1_part_28 (by decide)
theorem r79_31 : Sd gd_mt M79 31 (i_ild 4 33) := sd_iload dX1_part_31 rfl
theorem r79_33 : Sd gd_mt M79 33 (i_ifne 43 36) := sd_ifne dX1_part_33 (by decide) rfl
theorem r79_36 : Sd gd_mt M79 36 (i_lld 0 37) := sd_lload_n dX1_part_36 rfl rfl
theorem r79_37 : Sd gd_mt M79 37 (i_lld 5 39) := sd_lload dX1_part_37 rfl
theorem r79_39 : Sd gd_mt M79 39 (i_ldiv 40) := sd_ldiv dX1_part_39 rfl
theorem r79_40 : Sd gd_mt M79 40 (i_goto 47) := sd_goto dX1_part_40 (by decide)
theorem r79_43 : Sd gd_mt M79 43 (i_lld 2 44) := sd_lload_n dX1_part_43 rfl rfl
theorem r79_44 : Sd gd_mt M79 44 (i_lld 5 46) := sd_lload dX1_part_44 rfl
theorem r79_46 : Sd gd_mt M79 46 (i_ldiv 47) := sd_ldiv dX1_part_46 rfl
theorem r79_47 : Sd gd_mt M79 47 (i_msk [false, false, false, false, false, false, false, false, false, false, false] (i_lret)) := sd_msk _ (sd_lret rfl dX1_part_47)
def cl79_0 : List (Nat × gd_I) := [(0, i_lld 2 1), (1, i_lst 5 3), (3, i_lld 0 4), (4, i_lst 7 6), (6, i_msk [true, false, true, false, true, true, false, true, false, false, false] (i_lld 7 8)), (8, i_psh (.long 0) 9), (9, i_lcmp 10), (10, i_ifeq 31 13), (13, i_lld 5 15), (15, i_lld 7 17), (17, i_lrem 18), (18, i_lst 9 20), (20, i_lld 7 22), (22, i_lst 5 24), (24, i_lld 9 26), (26, i_lst 7 28), (28, i_goto 6), (31, i_ild 4 33), (33, i_ifne 43 36), (36, i_lld 0 37), (37, i_lld 5 39), (39, i_ldiv 40), (40, i_goto 47), (43, i_lld 2 44), (44, i_lld 5 46), (46, i_ldiv 47), (47, i_msk [false, false, false, false, false, false, false, false, false, false, false] (i_lret))]
theorem cs79_0 : ∀ q ∈ cl79_0, Sd gd_mt M79 q.1 q.2 := gd_ac r79_0 (gd_ac r79_1 (gd_ac r79_3 (gd_ac r79_4 (gd_ac r79_6 (gd_ac r79_8 (gd_ac r79_9 (gd_ac r79_10 (gd_ac r79_13 (gd_ac r79_15 (gd_ac r79_17 (gd_ac r79_18 (gd_ac r79_20 (gd_ac r79_22 (gd_ac r79_24 (gd_ac r79_26 (gd_ac r79_28 (gd_ac r79_31 (gd_ac r79_33 (gd_ac r79_36 (gd_ac r79_37 (gd_ac r79_39 (gd_ac r79_40 (gd_ac r79_43 (gd_ac r79_44 (gd_ac r79_46 (gd_ac r79_47 (gd_an)))))))))))))))))))))))))))
def cd79 (pc : Nat) : gd_I := lkI cl79_0 pc
theorem cg79 : ∀ pc, Sd gd_mt M79 pc (cd79 pc) := sd_lk cs79_0
theorem r80_0 : Sd gd_mt M80 0 (i_ald 0 1) := sd_aload_n dX1_planes_0 rfl rfl
theorem r80_1 : Sd gd_mt M80 1 (i_ild 1 2) := sd_iload_n dX1_planes_1 rfl rfl
theorem r80_2 : Sd gd_mt M80 2 (i_psh (.int 0) 3) := sd_iconst dX1_planes_2 (by decide) rfl
theorem r80_3 : Sd gd_mt M80 3 (i_psh (.int 99) 5) := sd_bipush dX1_planes_3 (by decide) rfl
theorem r80_5 : Sd gd_mt M80 5 (i_cV 53 3 1 8) := sd_cV2 e53 cal53 q513 q515 (rfl : gd_cl 1 = some _) qs2 dX1_planes_5 rfl
theorem r80_8 : Sd gd_mt M80 8 (i_msk [true, true, true, true, false, false, false, false, false, false] (i_ald 0 9)) := sd_msk _ (sd_aload_n dX1_planes_8 rfl rfl)
theorem r80_9 : Sd gd_mt M80 9 (i_ild 2 10) := sd_iload_n dX1_planes_9 rfl rfl
theorem r80_10 : Sd gd_mt M80 10 (i_psh (.int 0) 11) := sd_iconst dX1_planes_10 (by decide) rfl
theorem r80_11 : Sd gd_mt M80 11 (i_psh (.int 99) 13) := sd_bipush dX1_planes_11 (by decide) rfl
theorem r80_13 : Sd gd_mt M80 13 (i_cV 53 3 1 16) := sd_cV2 e53 cal53 q513 q515 (rfl : gd_cl 1 = some _) qs2 dX1_planes_13 rfl
theorem r80_16 : Sd gd_mt M80 16 (i_msk [true, true, true, true, false, false, false, false, false, false] (i_ald 0 17)) := sd_msk _ (sd_aload_n dX1_planes_16 rfl rfl)
theorem r80_17 : Sd gd_mt M80 17 (i_ild 3 18) := sd_iload_n dX1_planes_17 rfl rfl
theorem r80_18 : Sd gd_mt M80 18 (i_psh (.int 0) 19) := sd_iconst dX1_planes_18 (by decide) rfl
theorem r80_19 : Sd gd_mt M80 19 (i_psh (.int 2) 20) := sd_iconst dX1_planes_19 (by decide) rfl
theorem r80_20 : Sd gd_mt M80 20 (i_cV 53 3 1 23) := sd_cV2 e53 cal53 q513 q515 (rfl : gd_cl 1 = some _) qs2 dX1_planes_20 rfl
theorem r80_23 : Sd gd_mt M80 23 (i_msk [false, true, true, true, false, false, false, false, false, false] (i_psh (.int 0) 24)) := sd_msk _ (sd_iconst dX1_planes_23 (by decide) rfl)
theorem r80_24 : Sd gd_mt M80 24 (i_ist 4 26) := sd_istore dX1_planes_24 (by decide) rfl
theorem r80_26 : Sd gd_mt M80 26 (i_psh (.int (-1)) 27) := sd_iconst dX1_planes_26 (by decide) rfl
theorem r80_27 : Sd gd_mt M80 27 (i_ist 5 29) := sd_istore dX1_planes_27 (by decide) rfl
theorem r80_29 : Sd gd_mt M80 29 (i_psh (.int 0) 30) := sd_iconst dX1_planes_29 (by decide) rfl
theorem r80_30 : Sd gd_mt M80 30 (i_ist 6 32) := sd_istore dX1_planes_30 (by decide) rfl
theorem r80_32 : Sd gd_mt M80 32 (i_psh (.int 3) 33) := sd_iconst dX1_planes_32 (by decide) rfl
theorem r80_33 : Sd gd_mt M80 33 (i_ist 7 35) := sd_istore dX1_planes_33 (by decide) rfl
theorem r80_35 : Sd gd_mt M80 35 (i_msk [false, true, true, true, true, true, true, true, false, false] (i_ild 7 37)) := sd_msk _ (sd_iload dX1_planes_35 rfl)
theorem r80_37 : Sd gd_mt M80 37 (i_iflt 141 40) := sd_iflt dX1_planes_37 (by decide) rfl
theorem r80_40 : Sd gd_mt M80 40 (i_ild 7 42) := sd_iload dX1_planes_40 rfl
theorem r80_42 : Sd gd_mt M80 42 (i_psh (.int 2) 43) := sd_iconst dX1_planes_42 (by decide) rfl
theorem r80_43 : Sd gd_mt M80 43 (i_idiv 44) := sd_idiv dX1_planes_43 rfl
theorem r80_44 : Sd gd_mt M80 44 (i_ist 8 46) := sd_istore dX1_planes_44 (by decide) rfl
theorem r80_46 : Sd gd_mt M80 46 (i_ild 7 48) := sd_iload dX1_planes_46 rfl
theorem r80_48 : Sd gd_mt M80 48 (i_psh (.int 2) 49) := sd_iconst dX1_planes_48 (by decide) rfl
theorem r80_49 : Sd gd_mt M80 49 (i_irem 50) := sd_irem dX1_planes_49 rfl
theorem r80_50 : Sd gd_mt M80 50 (i_ist 9 52) := sd_istore dX1_planes_50 (by decide) rfl
theorem r80_52 : Sd gd_mt M80 52 (i_psh (.int 1) 53) := sd_iconst dX1_planes_52 (by decide) rfl
theorem r80_53 : Sd gd_mt M80 53 (i_ild 8 55) := sd_iload dX1_planes_53 rfl
theorem r80_55 : Sd gd_mt M80 55 (i_isub 56) := sd_isub dX1_planes_55 rfl
theorem r80_56 : Sd gd_mt M80 56 (i_ild 9 58) := sd_iload dX1_planes_56 rfl
theorem r80_58 : Sd gd_mt M80 58 (i_ild 1 59) := sd_iload_n dX1_planes_58 rfl rfl
theorem r80_59 : Sd gd_mt M80 59 (i_ild 2 60) := sd_iload_n dX1_planes_59 rfl rfl
theorem r80_60 : Sd gd_mt M80 60 (i_cS 81 4 63) := sd_cS2 e81 cal81 q1334 q1335 dX1_planes_60 rfl
theorem r80_63 : Sd gd_mt M80 63 (i_msk [false, true, true, true, true, true, true, true, true, true] (i_ild 8 65)) := sd_msk _ (sd_iload dX1_planes_63 rfl)
theorem r80_65 : Sd gd_mt M80 65 (i_ild 9 67) := sd_iload dX1_planes_65 rfl
theorem r80_67 : Sd gd_mt M80 67 (i_ild 1 68) := sd_iload_n dX1_planes_67 rfl rfl
theorem r80_68 : Sd gd_mt M80 68 (i_ild 2 69) := sd_iload_n dX1_planes_68 rfl rfl
theorem r80_69 : Sd gd_mt M80 69 (i_cS 81 4 72) := sd_cS2 e81 cal81 q1334 q1335 dX1_planes_69 rfl
theorem r80_72 : Sd gd_mt M80 72 (i_msk [false, true, true, true, true, true, true, true, true, true] (i_icgt 135 75)) := sd_msk _ (sd_icgt dX1_planes_72 (by decide) rfl)
theorem r80_75 : Sd gd_mt M80 75 (i_psh (.int 1) 76) := sd_iconst dX1_planes_75 (by decide) rfl
theorem r80_76 : Sd gd_mt M80 76 (i_ild 9 78) := sd_iload dX1_planes_76 rfl
def cl80_0 : List (Nat × gd_I) := [(0, i_ald 0 1), (1, i_ild 1 2), (2, i_psh (.int 0) 3), (3, i_psh (.int 99) 5), (5, i_cV 53 3 1 8), (8, i_msk [true, true, true, true, false, false, false, false, false, false] (i_ald 0 9)), (9, i_ild 2 10), (10, i_psh (.int 0) 11), (11, i_psh (.int 99) 13), (13, i_cV 53 3 1 16), (16, i_msk [true, true, true, true, false, false, false, false, false, false] (i_ald 0 17)), (17, i_ild 3 18), (18, i_psh (.int 0) 19), (19, i_psh (.int 2) 20), (20, i_cV 53 3 1 23), (23, i_msk [false, true, true, true, false, false, false, false, false, false] (i_psh (.int 0) 24)), (24, i_ist 4 26), (26, i_psh (.int (-1)) 27), (27, i_ist 5 29), (29, i_psh (.int 0) 30), (30, i_ist 6 32), (32, i_psh (.int 3) 33), (33, i_ist 7 35), (35, i_msk [false, true, true, true, true, true, true, true, false, false] (i_ild 7 37)), (37, i_iflt 141 40), (40, i_ild 7 42), (42, i_psh (.int 2) 43), (43, i_idiv 44), (44, i_ist 8 46), (46, i_ild 7 48), (48, i_psh (.int 2) 49), (49, i_irem 50), (50, i_ist 9 52), (52, i_psh (.int 1) 53), (53, i_ild 8 55), (55, i_isub 56), (56, i_ild 9 58), (58, i_ild 1 59), (59, i_ild 2 60), (60, i_cS 81 4 63), (63, i_msk [false, true, true, true, true, true, true, true, true, true] (i_ild 8 65)), (65, i_ild 9 67), (67, i_ild 1 68), (68, i_ild 2 69), (69, i_cS 81 4 72), (72, i_msk [false, true, true, true, true, true, true, true, true, true] (i_icgt 135 75)), (75, i_psh (.int 1) 76), (76, i_ild 9 78)]
theorem cs80_0 : ∀ q ∈ cl80_0, Sd gd_mt M80 q.1 q.2 := gd_ac r80_0 (gd_ac r80_1 (gd_ac r80_2 (gd_ac r80_3 (gd_ac r80_5 (gd_ac r80_8 (gd_ac r80_9 (gd_ac r80_10 (gd_ac r80_11 (gd_ac r80_13 (gd_ac r80_16 (gd_ac r80_17 (gd_ac r80_18 (gd_ac r80_19 (gd_ac r80_20 (gd_ac r80_23 (gd_ac r80_24 (gd_ac r80_26 (gd_ac r80_27 (gd_ac r80_29 (gd_ac r80_30 (gd_ac r80_32 (gd_ac r80_33 (gd_ac r80_35 (gd_ac r80_37 (gd_ac r80_40 (gd_ac r80_42 (gd_ac r80_43 (gd_ac r80_44 (gd_ac r80_46 (gd_ac r80_48 (gd_ac r80_49 (gd_ac r80_50 (gd_ac r80_52 (gd_ac r80_53 (gd_ac r80_55 (gd_ac r80_56 (gd_ac r80_58 (gd_ac r80_59 (gd_ac r80_60 (gd_ac r80_63 (gd_ac r80_65 (gd_ac r80_67 (gd_ac r80_68 (gd_ac r80_69 (gd_ac r80_72 (gd_ac r80_75 (gd_ac r80_76 (gd_an))))))))))))))))))))))))))))))))))))))))))))))))
theorem r80_78 : Sd gd_mt M80 78 (i_isub 79) := sd_isub dX1_planes_78 rfl
theorem r80_79 : Sd gd_mt M80 79 (i_ild 8 81) := sd_iload dX1_planes_79 rfl
theorem r80_81 : Sd gd_mt M80 81 (i_ild 1 82) := sd_iload_n dX1_planes_81 rfl rfl
theorem r80_82 : Sd gd_mt M80 82 (i_ild 2 83) := sd_iload_n dX1_planes_82 rfl rfl
theorem r80_83 : Sd gd_mt M80 83 (i_cS 81 4 86) := sd_cS2 e81 cal81 q1334 q1335 dX1_planes_83 rfl
theorem r80_86 : Sd gd_mt M80 86 (i_msk [false, true, true, true, true, true, true, true, true, true] (i_ild 9 88)) := sd_msk _ (sd_iload dX1_planes_86 rfl)
theorem r80_88 : Sd gd_mt M80 88 (i_ild 8 90) := sd_iload dX1_planes_88 rfl
theorem r80_90 : Sd gd_mt M80 90 (i_ild 1 91) := sd_iload_n dX1_planes_90 rfl rfl
theorem r80_91 : Sd gd_mt M80 91 (i_ild 2 92) := sd_iload_n dX1_planes_91 rfl rfl
theorem r80_92 : Sd gd_mt M80 92 (i_cS 81 4 95) := sd_cS2 e81 cal81 q1334 q1335 dX1_planes_92 rfl
theorem r80_95 : Sd gd_mt M80 95 (i_msk [false, true, true, true, true, true, true, true, true, true] (i_icle 101 98)) := sd_msk _ (sd_icle dX1_planes_95 (by decide) rfl)
theorem r80_98 : Sd gd_mt M80 98 (i_goto 135) := sd_goto dX1_planes_98 (by decide)
theorem r80_101 : Sd gd_mt M80 101 (i_inc 4 1 104) := sd_iinc dX1_planes_101 (by decide) (by decide) rfl
theorem r80_104 : Sd gd_mt M80 104 (i_psh (.int 10) 106) := sd_bipush dX1_planes_104 (by decide) rfl
theorem r80_106 : Sd gd_mt M80 106 (i_ild 8 108) := sd_iload dX1_planes_106 rfl
theorem r80_108 : Sd gd_mt M80 108 (i_imul 109) := sd_imul dX1_planes_108 rfl
theorem r80_109 : Sd gd_mt M80 109 (i_ild 9 111) := sd_iload dX1_planes_109 rfl
theorem r80_111 : Sd gd_mt M80 111 (i_iadd 112) := sd_iadd dX1_planes_111 rfl
theorem r80_112 : Sd gd_mt M80 112 (i_ist 5 114) := sd_istore dX1_planes_112 (by decide) rfl
theorem r80_114 : Sd gd_mt M80 114 (i_ild 8 116) := sd_iload dX1_planes_114 rfl
theorem r80_116 : Sd gd_mt M80 116 (i_ild 9 118) := sd_iload dX1_planes_116 rfl
theorem r80_118 : Sd gd_mt M80 118 (i_ild 1 119) := sd_iload_n dX1_planes_118 rfl rfl
theorem r80_119 : Sd gd_mt M80 119 (i_ild 2 120) := sd_iload_n dX1_planes_119 rfl rfl
theorem r80_120 : Sd gd_mt M80 120 (i_cS 81 4 123) := sd_cS2 e81 cal81 q1334 q1335 dX1_planes_120 rfl
theorem r80_123 : Sd gd_mt M80 123 (i_msk [false, true, true, true, true, true, false, true, true, true] (i_ild 9 125)) := sd_msk _ (sd_iload dX1_planes_123 rfl)
theorem r80_125 : Sd gd_mt M80 125 (i_ild 8 127) := sd_iload dX1_planes_125 rfl
theorem r80_127 : Sd gd_mt M80 127 (i_ild 1 128) := sd_iload_n dX1_planes_127 rfl rfl
theorem r80_128 : Sd gd_mt M80 128 (i_ild 2 129) := sd_iload_n dX1_planes_128 rfl rfl
theorem r80_129 : Sd gd_mt M80 129 (i_cS 81 4 132) := sd_cS2 e81 cal81 q1334 q1335 dX1_planes_129 rfl
theorem r80_132 : Sd gd_mt M80 132 (i_msk [false, true, true, true, true, true, false, true, false, false] (i_iadd 133)) := sd_msk _ (sd_iadd dX1_planes_132 rfl)
theorem r80_133 : Sd gd_mt M80 133 (i_ist 6 135) := sd_istore dX1_planes_133 (by decide) rfl
theorem r80_135 : Sd gd_mt M80 135 (i_msk [false, true, true, true, true, true, true, true, false, false] (i_inc 7 (-1) 138)) := sd_msk _ (sd_iinc dX1_planes_135 (by decide) (by decide) rfl)
theorem r80_138 : Sd gd_mt M80 138 (i_goto 35) := sd_goto dX1_planes_138 (by decide)
theorem r80_141 : Sd gd_mt M80 141 (i_ild 3 142) := sd_iload_n dX1_planes_141 rfl rfl
theorem r80_142 : Sd gd_mt M80 142 (i_ifne 150 145) := sd_ifne dX1_planes_142 (by decide) rfl
theorem r80_145 : Sd gd_mt M80 145 (i_ild 4 147) := sd_iload dX1_planes_145 rfl
theorem r80_147 : Sd gd_mt M80 147 (i_goto 162) := sd_goto dX1_planes_147 (by decide)
theorem r80_150 : Sd gd_mt M80 150 (i_ild 3 151) := sd_iload_n dX1_planes_150 rfl rfl
theorem r80_151 : Sd gd_mt M80 151 (i_psh (.int 1) 152) := sd_iconst dX1_planes_151 (by decide) rfl
theorem r80_152 : Sd gd_mt M80 152 (i_icne 160 155) := sd_icne dX1_planes_152 (by decide) rfl
theorem r80_155 : Sd gd_mt M80 155 (i_ild 5 157) := sd_iload dX1_planes_155 rfl
theorem r80_157 : Sd gd_mt M80 157 (i_goto 162) := sd_goto dX1_planes_157 (by decide)
theorem r80_160 : Sd gd_mt M80 160 (i_ild 6 162) := sd_iload dX1_planes_160 rfl
theorem r80_162 : Sd gd_mt M80 162 (i_msk [false, false, false, false, false, false, false, false, false, false] (i_iret)) := sd_msk _ (sd_iret rfl dX1_planes_162)
def cl80_1 : List (Nat × gd_I) := [(78, i_isub 79), (79, i_ild 8 81), (81, i_ild 1 82), (82, i_ild 2 83), (83, i_cS 81 4 86), (86, i_msk [false, true, true, true, true, true, true, true, true, true] (i_ild 9 88)), (88, i_ild 8 90), (90, i_ild 1 91), (91, i_ild 2 92), (92, i_cS 81 4 95), (95, i_msk [false, true, true, true, true, true, true, true, true, true] (i_icle 101 98)), (98, i_goto 135), (101, i_inc 4 1 104), (104, i_psh (.int 10) 106), (106, i_ild 8 108), (108, i_imul 109), (109, i_ild 9 111), (111, i_iadd 112), (112, i_ist 5 114), (114, i_ild 8 116), (116, i_ild 9 118), (118, i_ild 1 119), (119, i_ild 2 120), (120, i_cS 81 4 123), (123, i_msk [false, true, true, true, true, true, false, true, true, true] (i_ild 9 125)), (125, i_ild 8 127), (127, i_ild 1 128), (128, i_ild 2 129), (129, i_cS 81 4 132), (132, i_msk [false, true, true, true, true, true, false, true, false, false] (i_iadd 133)), (133, i_ist 6 135), (135, i_msk [false, true, true, true, true, true, true, true, false, false] (i_inc 7 (-1) 138)), (138, i_goto 35), (141, i_ild 3 142), (142, i_ifne 150 145), (145, i_ild 4 147), (147, i_goto 162), (150, i_ild 3 151), (151, i_psh (.int 1) 152), (152, i_icne 160 155), (155, i_ild 5 157), (157, i_goto 162), (160, i_ild 6 162), (162, i_msk [false, false, false, false, false, false, false, false, false, false] (i_iret))]
theorem cs80_1 : ∀ q ∈ cl80_1, Sd gd_mt M80 q.1 q.2 := gd_ac r80_78 (gd_ac r80_79 (gd_ac r80_81 (gd_ac r80_82 (gd_ac r80_83 (gd_ac r80_86 (gd_ac r80_88 (gd_ac r80_90 (gd_ac r80_91 (gd_ac r80_92 (gd_ac r80_95 (gd_ac r80_98 (gd_ac r80_101 (gd_ac r80_104 (gd_ac r80_106 (gd_ac r80_108 (gd_ac r80_109 (gd_ac r80_111 (gd_ac r80_112 (gd_ac r80_114 (gd_ac r80_116 (gd_ac r80_118 (gd_ac r80_119 (gd_ac r80_120 (gd_ac r80_123 (gd_ac r80_125 (gd_ac r80_127 (gd_ac r80_128 (gd_ac r80_129 (gd_ac r80_132 (gd_ac r80_133 (gd_ac r80_135 (gd_ac r80_138 (gd_ac r80_141 (gd_ac r80_142 (gd_ac r80_145 (gd_ac r80_147 (gd_ac r80_150 (gd_ac r80_151 (gd_ac r80_152 (gd_ac r80_155 (gd_ac r80_157 (gd_ac r80_160 (gd_ac r80_162 (gd_an))))))))))))))))))))))))))))))))))))))))))))
def cd80 (pc : Nat) : gd_I := if pc < 78 then lkI cl80_0 pc else lkI cl80_1 pc
theorem cg80 : ∀ pc, Sd gd_mt M80 pc (cd80 pc) := by
  intro pc
  unfold cd80
  by_cases h0 : pc < 78
  · rw [if_pos h0]; exact sd_lk cs80_0 pc
  rw [if_neg h0]
  exact sd_lk cs80_1 pc
theorem r81_0 : Sd gd_mt M81 0 (i_ild 0 1) := sd_iload_n dX1_hasBy_0 rfl rfl
theorem r81_1 : Sd gd_mt M81 1 (i_ild 1 2) := sd_iload_n dX1_hasBy_1 rfl rfl
theorem r81_2 : Sd gd_mt M81 2 (i_icne 18 5) := sd_icne dX1_hasBy_2 (by decide) rfl
theorem r81_5 : Sd gd_mt M81 5 (i_ild 0 6) := sd_iload_n dX1_hasBy_5 rfl rfl
theorem r81_6 : Sd gd_mt M81 6 (i_psh (.int 1) 7) := sd_iconst dX1_hasBy_6 (by decide) rfl
theorem r81_7 : Sd gd_mt M81 7 (i_icne 14 10) := sd_icne dX1_hasBy_7 (by decide) rfl
theorem r81_10 : Sd gd_mt M81 10 (i_ild 2 11) := sd_iload_n dX1_hasBy_10 rfl rfl
theorem r81_11 : Sd gd_mt M81 11 (i_goto 28) := sd_goto dX1_hasBy_11 (by decide)
theorem r81_14 : Sd gd_mt M81 14 (i_psh (.int 0) 15) := sd_iconst dX1_hasBy_14 (by decide) rfl
theorem r81_15 : Sd gd_mt M81 15 (i_goto 28) := sd_goto dX1_hasBy_15 (by decide)
theorem r81_18 : Sd gd_mt M81 18 (i_ild 0 19) := sd_iload_n dX1_hasBy_18 rfl rfl
theorem r81_19 : Sd gd_mt M81 19 (i_ifne 26 22) := sd_ifne dX1_hasBy_19 (by decide) rfl
theorem r81_22 : Sd gd_mt M81 22 (i_ild 3 23) := sd_iload_n dX1_hasBy_22 rfl rfl
theorem r81_23 : Sd gd_mt M81 23 (i_goto 28) := sd_goto dX1_hasBy_23 (by decide)
theorem r81_26 : Sd gd_mt M81 26 (i_ild 3 27) := sd_iload_n dX1_hasBy_26 rfl rfl
theorem r81_27 : Sd gd_mt M81 27 (i_ineg 28) := sd_ineg dX1_hasBy_27 rfl
theorem r81_28 : Sd gd_mt M81 28 (i_msk [false, false, false, false] (i_iret)) := sd_msk _ (sd_iret rfl dX1_hasBy_28)
def cl81_0 : List (Nat × gd_I) := [(0, i_ild 0 1), (1, i_ild 1 2), (2, i_icne 18 5), (5, i_ild 0 6), (6, i_psh (.int 1) 7), (7, i_icne 14 10), (10, i_ild 2 11), (11, i_goto 28), (14, i_psh (.int 0) 15), (15, i_goto 28), (18, i_ild 0 19), (19, i_ifne 26 22), (22, i_ild 3 23), (23, i_goto 28), (26, i_ild 3 27), (27, i_ineg 28), (28, i_msk [false, false, false, false] (i_iret))]
theorem cs81_0 : ∀ q ∈ cl81_0, Sd gd_mt M81 q.1 q.2 := gd_ac r81_0 (gd_ac r81_1 (gd_ac r81_2 (gd_ac r81_5 (gd_ac r81_6 (gd_ac r81_7 (gd_ac r81_10 (gd_ac r81_11 (gd_ac r81_14 (gd_ac r81_15 (gd_ac r81_18 (gd_ac r81_19 (gd_ac r81_22 (gd_ac r81_23 (gd_ac r81_26 (gd_ac r81_27 (gd_ac r81_28 (gd_an)))))))))))))))))
def cd81 (pc : Nat) : gd_I := lkI cl81_0 pc
theorem cg81 : ∀ pc, Sd gd_mt M81 pc (cd81 pc) := sd_lk cs81_0
theorem r82_0 : Sd gd_mt M82 0 (i_ald 0 1) := sd_aload_n dX1_chairs_0 rfl rfl
theorem r82_1 : Sd gd_mt M82 1 (i_ild 1 2) := sd_iload_n dX1_chairs_1 rfl rfl
theorem r82_2 : Sd gd_mt M82 2 (i_cV 64 1 1 5) := sd_cV2 e64 cal64 q1223 q1225 (rfl : gd_cl 1 = some _) qs18 dX1_chairs_2 rfl
theorem r82_5 : Sd gd_mt M82 5 (i_msk [true, true, true, true, false, false, false] (i_ald 0 6)) := sd_msk _ (sd_aload_n dX1_chairs_5 rfl rfl)
theorem r82_6 : Sd gd_mt M82 6 (i_ild 2 7) := sd_iload_n dX1_chairs_6 rfl rfl
theorem r82_7 : Sd gd_mt M82 7 (i_psh (.int 0) 8) := sd_iconst dX1_chairs_7 (by decide) rfl
theorem r82_8 : Sd gd_mt M82 8 (i_psh (.int 1) 9) := sd_iconst dX1_chairs_8 (by decide) rfl
theorem r82_9 : Sd gd_mt M82 9 (i_ald 0 10) := sd_aload_n dX1_chairs_9 rfl rfl
theorem r82_10 : Sd gd_mt M82 10 (i_getR 1 15 13) := sd_getR ck1 (by decide) rfl (.inl q371) dX1_chairs_10 rfl
theorem r82_13 : Sd gd_mt M82 13 (i_getI 6 7 16) := sd_getI ck6 (by decide) rfl (.inr ⟨_, q238⟩) dX1_chairs_13 rfl
theorem r82_16 : Sd gd_mt M82 16 (i_ishl 17) := sd_ishl dX1_chairs_16 rfl
theorem r82_17 : Sd gd_mt M82 17 (i_psh (.int 1) 18) := sd_iconst dX1_chairs_17 (by decide) rfl
theorem r82_18 : Sd gd_mt M82 18 (i_isub 19) := sd_isub dX1_chairs_18 rfl
theorem r82_19 : Sd gd_mt M82 19 (i_cV 53 3 1 22) := sd_cV2 e53 cal53 q513 q515 (rfl : gd_cl 1 = some _) qs2 dX1_chairs_19 rfl
theorem r82_22 : Sd gd_mt M82 22 (i_msk [true, true, true, true, false, false, false] (i_ald 0 23)) := sd_msk _ (sd_aload_n dX1_chairs_22 rfl rfl)
theorem r82_23 : Sd gd_mt M82 23 (i_ild 3 24) := sd_iload_n dX1_chairs_23 rfl rfl
theorem r82_24 : Sd gd_mt M82 24 (i_psh (.int 0) 25) := sd_iconst dX1_chairs_24 (by decide) rfl
theorem r82_25 : Sd gd_mt M82 25 (i_psh (.int 9999) 28) := sd_sipush dX1_chairs_25 (by decide) rfl
theorem r82_28 : Sd gd_mt M82 28 (i_cV 53 3 1 31) := sd_cV2 e53 cal53 q513 q515 (rfl : gd_cl 1 = some _) qs2 dX1_chairs_28 rfl
theorem r82_31 : Sd gd_mt M82 31 (i_msk [true, true, true, true, false, false, false] (i_psh (.int 0) 32)) := sd_msk _ (sd_iconst dX1_chairs_31 (by decide) rfl)
theorem r82_32 : Sd gd_mt M82 32 (i_ist 4 34) := sd_istore dX1_chairs_32 (by decide) rfl
theorem r82_34 : Sd gd_mt M82 34 (i_psh (.int 999) 37) := sd_sipush dX1_chairs_34 (by decide) rfl
theorem r82_37 : Sd gd_mt M82 37 (i_ist 5 39) := sd_istore dX1_chairs_37 (by decide) rfl
theorem r82_39 : Sd gd_mt M82 39 (i_msk [true, true, true, true, true, true, false] (i_ild 4 41)) := sd_msk _ (sd_iload dX1_chairs_39 rfl)
theorem r82_41 : Sd gd_mt M82 41 (i_ild 5 43) := sd_iload dX1_chairs_41 rfl
theorem r82_43 : Sd gd_mt M82 43 (i_icge 84 46) := sd_icge dX1_chairs_43 (by decide) rfl
theorem r82_46 : Sd gd_mt M82 46 (i_ild 4 48) := sd_iload dX1_chairs_46 rfl
theorem r82_48 : Sd gd_mt M82 48 (i_ild 5 50) := sd_iload dX1_chairs_48 rfl
theorem r82_50 : Sd gd_mt M82 50 (i_iadd 51) := sd_iadd dX1_chairs_50 rfl
theorem r82_51 : Sd gd_mt M82 51 (i_psh (.int 1) 52) := sd_iconst dX1_chairs_51 (by decide) rfl
theorem r82_52 : Sd gd_mt M82 52 (i_iadd 53) := sd_iadd dX1_chairs_52 rfl
theorem r82_53 : Sd gd_mt M82 53 (i_psh (.int 2) 54) := sd_iconst dX1_chairs_53 (by decide) rfl
theorem r82_54 : Sd gd_mt M82 54 (i_idiv 55) := sd_idiv dX1_chairs_54 rfl
theorem r82_55 : Sd gd_mt M82 55 (i_ist 6 57) := sd_istore dX1_chairs_55 (by decide) rfl
theorem r82_57 : Sd gd_mt M82 57 (i_ald 0 58) := sd_aload_n dX1_chairs_57 rfl rfl
theorem r82_58 : Sd gd_mt M82 58 (i_ild 2 59) := sd_iload_n dX1_chairs_58 rfl rfl
theorem r82_59 : Sd gd_mt M82 59 (i_ild 6 61) := sd_iload dX1_chairs_59 rfl
theorem r82_61 : Sd gd_mt M82 61 (i_cV 83 2 1 64) := sd_cV2 e83 cal83 q1344 q1346 (rfl : gd_cl 1 = some _) qs23 dX1_chairs_61 rfl
theorem r82_64 : Sd gd_mt M82 64 (i_msk [true, true, true, true, true, true, true] (i_ild 3 65)) := sd_msk _ (sd_iload_n dX1_chairs_64 rfl rfl)
theorem r82_65 : Sd gd_mt M82 65 (i_icgt 75 68) := sd_icgt dX1_chairs_65 (by decide) rfl
theorem r82_68 : Sd gd_mt M82 68 (i_ild 6 70) := sd_iload dX1_chairs_68 rfl
theorem r82_70 : Sd gd_mt M82 70 (i_ist 4 72) := sd_istore dX1_chairs_70 (by decide) rfl
theorem r82_72 : Sd gd_mt M82 72 (i_goto 81) := sd_goto dX1_chairs_72 (by decide)
theorem r82_75 : Sd gd_mt M82 75 (i_ild 6 77) := sd_iload dX1_chairs_75 rfl
theorem r82_77 : Sd gd_mt M82 77 (i_psh (.int 1) 78) := sd_iconst dX1_chairs_77 (by decide) rfl
theorem r82_78 : Sd gd_mt M82 78 (i_isub 79) := sd_isub dX1_chairs_78 rfl
theorem r82_79 : Sd gd_mt M82 79 (i_ist 5 81) := sd_istore dX1_chairs_79 (by decide) rfl
theorem r82_81 : Sd gd_mt M82 81 (i_msk [true, true, true, true, true, true, false] (i_goto 39)) := sd_msk _ (sd_goto dX1_chairs_81 (by decide))
def cl82_0 : List (Nat × gd_I) := [(0, i_ald 0 1), (1, i_ild 1 2), (2, i_cV 64 1 1 5), (5, i_msk [true, true, true, true, false, false, false] (i_ald 0 6)), (6, i_ild 2 7), (7, i_psh (.int 0) 8), (8, i_psh (.int 1) 9), (9, i_ald 0 10), (10, i_getR 1 15 13), (13, i_getI 6 7 16), (16, i_ishl 17), (17, i_psh (.int 1) 18), (18, i_isub 19), (19, i_cV 53 3 1 22), (22, i_msk [true, true, true, true, false, false, false] (i_ald 0 23)), (23, i_ild 3 24), (24, i_psh (.int 0) 25), (25, i_psh (.int 9999) 28), (28, i_cV 53 3 1 31), (31, i_msk [true, true, true, true, false, false, false] (i_psh (.int 0) 32)), (32, i_ist 4 34), (34, i_psh (.int 999) 37), (37, i_ist 5 39), (39, i_msk [true, true, true, true, true, true, false] (i_ild 4 41)), (41, i_ild 5 43), (43, i_icge 84 46), (46, i_ild 4 48), (48, i_ild 5 50), (50, i_iadd 51), (51, i_psh (.int 1) 52), (52, i_iadd 53), (53, i_psh (.int 2) 54), (54, i_idiv 55), (55, i_ist 6 57), (57, i_ald 0 58), (58, i_ild 2 59), (59, i_ild 6 61), (61, i_cV 83 2 1 64), (64, i_msk [true, true, true, true, true, true, true] (i_ild 3 65)), (65, i_icgt 75 68), (68, i_ild 6 70), (70, i_ist 4 72), (72, i_goto 81), (75, i_ild 6 77), (77, i_psh (.int 1) 78), (78, i_isub 79), (79, i_ist 5 81), (81, i_msk [true, true, true, true, true, true, false] (i_goto 39))]
theorem cs82_0 : ∀ q ∈ cl82_0, Sd gd_mt M82 q.1 q.2 := gd_ac r82_0 (gd_ac r82_1 (gd_ac r82_2 (gd_ac r82_5 (gd_ac r82_6 (gd_ac r82_7 (gd_ac r82_8 (gd_ac r82_9 (gd_ac r82_10 (gd_ac r82_13 (gd_ac r82_16 (gd_ac r82_17 (gd_ac r82_18 (gd_ac r82_19 (gd_ac r82_22 (gd_ac r82_23 (gd_ac r82_24 (gd_ac r82_25 (gd_ac r82_28 (gd_ac r82_31 (gd_ac r82_32 (gd_ac r82_34 (gd_ac r82_37 (gd_ac r82_39 (gd_ac r82_41 (gd_ac r82_43 (gd_ac r82_46 (gd_ac r82_48 (gd_ac r82_50 (gd_ac r82_51 (gd_ac r82_52 (gd_ac r82_53 (gd_ac r82_54 (gd_ac r82_55 (gd_ac r82_57 (gd_ac r82_58 (gd_ac r82_59 (gd_ac r82_61 (gd_ac r82_64 (gd_ac r82_65 (gd_ac r82_68 (gd_ac r82_70 (gd_ac r82_72 (gd_ac r82_75 (gd_ac r82_77 (gd_ac r82_78 (gd_ac r82_79 (gd_ac r82_81 (gd_an))))))))))))))))))))))))))))))))))))))))))))))))
theorem r82_84 : Sd gd_mt M82 84 (i_ild 2 85) := sd_iload_n dX1_chairs_84 rfl rfl
theorem r82_85 : Sd gd_mt M82 85 (i_ild 1 86) := sd_iload_n dX1_chairs_85 rfl rfl
theorem r82_86 : Sd gd_mt M82 86 (i_ishr 87) := sd_ishr dX1_chairs_86 rfl
theorem r82_87 : Sd gd_mt M82 87 (i_psh (.int 1) 88) := sd_iconst dX1_chairs_87 (by decide) rfl
theorem r82_88 : Sd gd_mt M82 88 (i_iand 89) := sd_iand dX1_chairs_88 rfl
theorem r82_89 : Sd gd_mt M82 89 (i_ifne 96 92) := sd_ifne dX1_chairs_89 (by decide) rfl
theorem r82_92 : Sd gd_mt M82 92 (i_psh (.int 0) 93) := sd_iconst dX1_chairs_92 (by decide) rfl
theorem r82_93 : Sd gd_mt M82 93 (i_goto 113) := sd_goto dX1_chairs_93 (by decide)
theorem r82_96 : Sd gd_mt M82 96 (i_ild 4 98) := sd_iload dX1_chairs_96 rfl
theorem r82_98 : Sd gd_mt M82 98 (i_ald 0 99) := sd_aload_n dX1_chairs_98 rfl rfl
theorem r82_99 : Sd gd_mt M82 99 (i_getR 1 2 102) := sd_getR ck1 (by decide) rfl (.inl q358) dX1_chairs_99 rfl
theorem r82_102 : Sd gd_mt M82 102 (i_cV 145 0 3 105) := sd_cV2 e145 cal145 q345 q346 (rfl : gd_cl 3 = some _) q347 dX1_chairs_102 rfl
theorem r82_105 : Sd gd_mt M82 105 (i_msk [false, true, false, false, false, false, false] (i_getR 4 1 108)) := sd_msk _ (sd_getR ck4 (by decide) rfl (.inr ⟨_, q260⟩) dX1_chairs_105 rfl)
theorem r82_108 : Sd gd_mt M82 108 (i_ild 1 109) := sd_iload_n dX1_chairs_108 rfl rfl
theorem r82_109 : Sd gd_mt M82 109 (i_aldI 31 110) := sd_iald dX1_chairs_109 rfl
theorem r82_110 : Sd gd_mt M82 110 (i_mmin 113) := sd_mmin q780 q759 q106 q760 dX1_chairs_110 rfl
theorem r82_113 : Sd gd_mt M82 113 (i_msk [false, false, false, false, false, false, false] (i_iret)) := sd_msk _ (sd_iret rfl dX1_chairs_113)
def cl82_1 : List (Nat × gd_I) := [(84, i_ild 2 85), (85, i_ild 1 86), (86, i_ishr 87), (87, i_psh (.int 1) 88), (88, i_iand 89), (89, i_ifne 96 92), (92, i_psh (.int 0) 93), (93, i_goto 113), (96, i_ild 4 98), (98, i_ald 0 99), (99, i_getR 1 2 102), (102, i_cV 145 0 3 105), (105, i_msk [false, true, false, false, false, false, false] (i_getR 4 1 108)), (108, i_ild 1 109), (109, i_aldI 31 110), (110, i_mmin 113), (113, i_msk [false, false, false, false, false, false, false] (i_iret))]
theorem cs82_1 : ∀ q ∈ cl82_1, Sd gd_mt M82 q.1 q.2 := gd_ac r82_84 (gd_ac r82_85 (gd_ac r82_86 (gd_ac r82_87 (gd_ac r82_88 (gd_ac r82_89 (gd_ac r82_92 (gd_ac r82_93 (gd_ac r82_96 (gd_ac r82_98 (gd_ac r82_99 (gd_ac r82_102 (gd_ac r82_105 (gd_ac r82_108 (gd_ac r82_109 (gd_ac r82_110 (gd_ac r82_113 (gd_an)))))))))))))))))
def cd82 (pc : Nat) : gd_I := if pc < 84 then lkI cl82_0 pc else lkI cl82_1 pc
theorem cg82 : ∀ pc, Sd gd_mt M82 pc (cd82 pc) := by
  intro pc
  unfold cd82
  by_cases h0 : pc < 84
  · rw [if_pos h0]; exact sd_lk cs82_0 pc
  rw [if_neg h0]
  exact sd_lk cs82_1 pc
theorem r83_0 : Sd gd_mt M83 0 (i_psh (.int 0) 1) := sd_iconst dX1_givenBy_0 (by decide) rfl
theorem r83_1 : Sd gd_mt M83 1 (i_ist 3 2) := sd_istore_n dX1_givenBy_1 rfl (by decide) rfl
theorem r83_2 : Sd gd_mt M83 2 (i_psh (.int 0) 3) := sd_iconst dX1_givenBy_2 (by decide) rfl
theorem r83_3 : Sd gd_mt M83 3 (i_ist 4 5) := sd_istore dX1_givenBy_3 (by decide) rfl
theorem r83_5 : Sd gd_mt M83 5 (i_msk [true, true, true, true, true] (i_ild 4 7)) := sd_msk _ (sd_iload dX1_givenBy_5 rfl)
theorem r83_7 : Sd gd_mt M83 7 (i_ald 0 8) := sd_aload_n dX1_givenBy_7 rfl rfl
theorem r83_8 : Sd gd_mt M83 8 (i_getR 1 15 11) := sd_getR ck1 (by decide) rfl (.inl q371) dX1_givenBy_8 rfl
theorem r83_11 : Sd gd_mt M83 11 (i_getI 6 7 14) := sd_getI ck6 (by decide) rfl (.inr ⟨_, q238⟩) dX1_givenBy_11 rfl
theorem r83_14 : Sd gd_mt M83 14 (i_icge 53 17) := sd_icge dX1_givenBy_14 (by decide) rfl
theorem r83_17 : Sd gd_mt M83 17 (i_ild 1 18) := sd_iload_n dX1_givenBy_17 rfl rfl
theorem r83_18 : Sd gd_mt M83 18 (i_ild 4 20) := sd_iload dX1_givenBy_18 rfl
theorem r83_20 : Sd gd_mt M83 20 (i_ishr 21) := sd_ishr dX1_givenBy_20 rfl
theorem r83_21 : Sd gd_mt M83 21 (i_psh (.int 1) 22) := sd_iconst dX1_givenBy_21 (by decide) rfl
theorem r83_22 : Sd gd_mt M83 22 (i_iand 23) := sd_iand dX1_givenBy_22 rfl
theorem r83_23 : Sd gd_mt M83 23 (i_psh (.int 1) 24) := sd_iconst dX1_givenBy_23 (by decide) rfl
theorem r83_24 : Sd gd_mt M83 24 (i_icne 47 27) := sd_icne dX1_givenBy_24 (by decide) rfl
theorem r83_27 : Sd gd_mt M83 27 (i_ild 3 28) := sd_iload_n dX1_givenBy_27 rfl rfl
theorem r83_28 : Sd gd_mt M83 28 (i_ild 2 29) := sd_iload_n dX1_givenBy_28 rfl rfl
theorem r83_29 : Sd gd_mt M83 29 (i_ald 0 30) := sd_aload_n dX1_givenBy_29 rfl rfl
theorem r83_30 : Sd gd_mt M83 30 (i_getR 1 2 33) := sd_getR ck1 (by decide) rfl (.inl q358) dX1_givenBy_30 rfl
theorem r83_33 : Sd gd_mt M83 33 (i_cV 145 0 3 36) := sd_cV2 e145 cal145 q345 q346 (rfl : gd_cl 3 = some _) q347 dX1_givenBy_33 rfl
theorem r83_36 : Sd gd_mt M83 36 (i_msk [true, true, true, false, true] (i_getR 4 1 39)) := sd_msk _ (sd_getR ck4 (by decide) rfl (.inr ⟨_, q260⟩) dX1_givenBy_36 rfl)
theorem r83_39 : Sd gd_mt M83 39 (i_ild 4 41) := sd_iload dX1_givenBy_39 rfl
theorem r83_41 : Sd gd_mt M83 41 (i_aldI 31 42) := sd_iald dX1_givenBy_41 rfl
theorem r83_42 : Sd gd_mt M83 42 (i_mmin 45) := sd_mmin q780 q759 q106 q760 dX1_givenBy_42 rfl
theorem r83_45 : Sd gd_mt M83 45 (i_msk [true, true, true, false, true] (i_iadd 46)) := sd_msk _ (sd_iadd dX1_givenBy_45 rfl)
theorem r83_46 : Sd gd_mt M83 46 (i_ist 3 47) := sd_istore_n dX1_givenBy_46 rfl (by decide) rfl
theorem r83_47 : Sd gd_mt M83 47 (i_msk [true, true, true, true, true] (i_inc 4 1 50)) := sd_msk _ (sd_iinc dX1_givenBy_47 (by decide) (by decide) rfl)
theorem r83_50 : Sd gd_mt M83 50 (i_goto 5) := sd_goto dX1_givenBy_50 (by decide)
theorem r83_53 : Sd gd_mt M83 53 (i_ild 3 54) := sd_iload_n dX1_givenBy_53 rfl rfl
theorem r83_54 : Sd gd_mt M83 54 (i_iret) := sd_iret rfl dX1_givenBy_54
def cl83_0 : List (Nat × gd_I) := [(0, i_psh (.int 0) 1), (1, i_ist 3 2), (2, i_psh (.int 0) 3), (3, i_ist 4 5), (5, i_msk [true, true, true, true, true] (i_ild 4 7)), (7, i_ald 0 8), (8, i_getR 1 15 11), (11, i_getI 6 7 14), (14, i_icge 53 17), (17, i_ild 1 18), (18, i_ild 4 20), (20, i_ishr 21), (21, i_psh (.int 1) 22), (22, i_iand 23), (23, i_psh (.int 1) 24), (24, i_icne 47 27), (27, i_ild 3 28), (28, i_ild 2 29), (29, i_ald 0 30), (30, i_getR 1 2 33), (33, i_cV 145 0 3 36), (36, i_msk [true, true, true, false, true] (i_getR 4 1 39)), (39, i_ild 4 41), (41, i_aldI 31 42), (42, i_mmin 45), (45, i_msk [true, true, true, false, true] (i_iadd 46)), (46, i_ist 3 47), (47, i_msk [true, true, true, true, true] (i_inc 4 1 50)), (50, i_goto 5), (53, i_ild 3 54), (54, i_iret)]
theorem cs83_0 : ∀ q ∈ cl83_0, Sd gd_mt M83 q.1 q.2 := gd_ac r83_0 (gd_ac r83_1 (gd_ac r83_2 (gd_ac r83_3 (gd_ac r83_5 (gd_ac r83_7 (gd_ac r83_8 (gd_ac r83_11 (gd_ac r83_14 (gd_ac r83_17 (gd_ac r83_18 (gd_ac r83_20 (gd_ac r83_21 (gd_ac r83_22 (gd_ac r83_23 (gd_ac r83_24 (gd_ac r83_27 (gd_ac r83_28 (gd_ac r83_29 (gd_ac r83_30 (gd_ac r83_33 (gd_ac r83_36 (gd_ac r83_39 (gd_ac r83_41 (gd_ac r83_42 (gd_ac r83_45 (gd_ac r83_46 (gd_ac r83_47 (gd_ac r83_50 (gd_ac r83_53 (gd_ac r83_54 (gd_an)))))))))))))))))))))))))))))))
def cd83 (pc : Nat) : gd_I := lkI cl83_0 pc
theorem cg83 : ∀ pc, Sd gd_mt M83 pc (cd83 pc) := sd_lk cs83_0
theorem r84_0 : Sd gd_mt M84 0 (i_ald 0 1) := sd_aload_n dX1_tallest_0 rfl rfl
theorem r84_1 : Sd gd_mt M84 1 (i_ild 1 2) := sd_iload_n dX1_tallest_1 rfl rfl
theorem r84_2 : Sd gd_mt M84 2 (i_psh (.int 0) 3) := sd_iconst dX1_tallest_2 (by decide) rfl
theorem r84_3 : Sd gd_mt M84 3 (i_psh (.int 1) 4) := sd_iconst dX1_tallest_3 (by decide) rfl
theorem r84_4 : Sd gd_mt M84 4 (i_cV 53 3 1 7) := sd_cV2 e53 cal53 q513 q515 (rfl : gd_cl 1 = some _) qs2 dX1_tallest_4 rfl
theorem r84_7 : Sd gd_mt M84 7 (i_msk [true, true, false, false, false] (i_ald 0 8)) := sd_msk _ (sd_aload_n dX1_tallest_7 rfl rfl)
theorem r84_8 : Sd gd_mt M84 8 (i_getR 1 2 11) := sd_getR ck1 (by decide) rfl (.inl q358) dX1_tallest_8 rfl
theorem r84_11 : Sd gd_mt M84 11 (i_cV 145 0 3 14) := sd_cV2 e145 cal145 q345 q346 (rfl : gd_cl 3 = some _) q347 dX1_tallest_11 rfl
theorem r84_14 : Sd gd_mt M84 14 (i_msk [true, true, false, false, false] (i_getR 4 1 17)) := sd_msk _ (sd_getR ck4 (by decide) rfl (.inr ⟨_, q260⟩) dX1_tallest_14 rfl)
theorem r84_17 : Sd gd_mt M84 17 (i_ast 2 18) := sd_astore_n dX1_tallest_17 rfl (by decide) rfl
theorem r84_18 : Sd gd_mt M84 18 (i_psh (.int (-1)) 19) := sd_iconst dX1_tallest_18 (by decide) rfl
theorem r84_19 : Sd gd_mt M84 19 (i_ist 3 20) := sd_istore_n dX1_tallest_19 rfl (by decide) rfl
theorem r84_20 : Sd gd_mt M84 20 (i_psh (.int 0) 21) := sd_iconst dX1_tallest_20 (by decide) rfl
theorem r84_21 : Sd gd_mt M84 21 (i_ist 4 23) := sd_istore dX1_tallest_21 (by decide) rfl
theorem r84_23 : Sd gd_mt M84 23 (i_msk [true, true, true, true, true] (i_ild 4 25)) := sd_msk _ (sd_iload dX1_tallest_23 rfl)
theorem r84_25 : Sd gd_mt M84 25 (i_ald 0 26) := sd_aload_n dX1_tallest_25 rfl rfl
theorem r84_26 : Sd gd_mt M84 26 (i_getR 1 15 29) := sd_getR ck1 (by decide) rfl (.inl q371) dX1_tallest_26 rfl
theorem r84_29 : Sd gd_mt M84 29 (i_getI 6 7 32) := sd_getI ck6 (by decide) rfl (.inr ⟨_, q238⟩) dX1_tallest_29 rfl
theorem r84_32 : Sd gd_mt M84 32 (i_icge 59 35) := sd_icge dX1_tallest_32 (by decide) rfl
theorem r84_35 : Sd gd_mt M84 35 (i_ild 3 36) := sd_iload_n dX1_tallest_35 rfl rfl
theorem r84_36 : Sd gd_mt M84 36 (i_psh (.int (-1)) 37) := sd_iconst dX1_tallest_36 (by decide) rfl
theorem r84_37 : Sd gd_mt M84 37 (i_iceq 50 40) := sd_iceq dX1_tallest_37 (by decide) rfl
theorem r84_40 : Sd gd_mt M84 40 (i_ald 2 41) := sd_aload_n dX1_tallest_40 rfl rfl
theorem r84_41 : Sd gd_mt M84 41 (i_ild 4 43) := sd_iload dX1_tallest_41 rfl
theorem r84_43 : Sd gd_mt M84 43 (i_aldI 31 44) := sd_iald dX1_tallest_43 rfl
theorem r84_44 : Sd gd_mt M84 44 (i_ald 2 45) := sd_aload_n dX1_tallest_44 rfl rfl
theorem r84_45 : Sd gd_mt M84 45 (i_ild 3 46) := sd_iload_n dX1_tallest_45 rfl rfl
theorem r84_46 : Sd gd_mt M84 46 (i_aldI 31 47) := sd_iald dX1_tallest_46 rfl
theorem r84_47 : Sd gd_mt M84 47 (i_icle 53 50) := sd_icle dX1_tallest_47 (by decide) rfl
theorem r84_50 : Sd gd_mt M84 50 (i_msk [true, true, true, false, true] (i_ild 4 52)) := sd_msk _ (sd_iload dX1_tallest_50 rfl)
theorem r84_52 : Sd gd_mt M84 52 (i_ist 3 53) := sd_istore_n dX1_tallest_52 rfl (by decide) rfl
theorem r84_53 : Sd gd_mt M84 53 (i_msk [true, true, true, true, true] (i_inc 4 1 56)) := sd_msk _ (sd_iinc dX1_tallest_53 (by decide) (by decide) rfl)
theorem r84_56 : Sd gd_mt M84 56 (i_goto 23) := sd_goto dX1_tallest_56 (by decide)
theorem r84_59 : Sd gd_mt M84 59 (i_ild 1 60) := sd_iload_n dX1_tallest_59 rfl rfl
theorem r84_60 : Sd gd_mt M84 60 (i_ifeq 68 63) := sd_ifeq dX1_tallest_60 (by decide) rfl
theorem r84_63 : Sd gd_mt M84 63 (i_ild 3 64) := sd_iload_n dX1_tallest_63 rfl rfl
theorem r84_64 : Sd gd_mt M84 64 (i_psh (.int (-1)) 65) := sd_iconst dX1_tallest_64 (by decide) rfl
theorem r84_65 : Sd gd_mt M84 65 (i_icne 72 68) := sd_icne dX1_tallest_65 (by decide) rfl
theorem r84_68 : Sd gd_mt M84 68 (i_msk [false, false, false, true, false] (i_ild 3 69)) := sd_msk _ (sd_iload_n dX1_tallest_68 rfl rfl)
theorem r84_69 : Sd gd_mt M84 69 (i_goto 75) := sd_goto dX1_tallest_69 (by decide)
theorem r84_72 : Sd gd_mt M84 72 (i_ald 2 73) := sd_aload_n dX1_tallest_72 rfl rfl
theorem r84_73 : Sd gd_mt M84 73 (i_ild 3 74) := sd_iload_n dX1_tallest_73 rfl rfl
theorem r84_74 : Sd gd_mt M84 74 (i_aldI 31 75) := sd_iald dX1_tallest_74 rfl
theorem r84_75 : Sd gd_mt M84 75 (i_msk [false, false, false, false, false] (i_iret)) := sd_msk _ (sd_iret rfl dX1_tallest_75)
def cl84_0 : List (Nat × gd_I) := [(0, i_ald 0 1), (1, i_ild 1 2), (2, i_psh (.int 0) 3), (3, i_psh (.int 1) 4), (4, i_cV 53 3 1 7), (7, i_msk [true, true, false, false, false] (i_ald 0 8)), (8, i_getR 1 2 11), (11, i_cV 145 0 3 14), (14, i_msk [true, true, false, false, false] (i_getR 4 1 17)), (17, i_ast 2 18), (18, i_psh (.int (-1)) 19), (19, i_ist 3 20), (20, i_psh (.int 0) 21), (21, i_ist 4 23), (23, i_msk [true, true, true, true, true] (i_ild 4 25)), (25, i_ald 0 26), (26, i_getR 1 15 29), (29, i_getI 6 7 32), (32, i_icge 59 35), (35, i_ild 3 36), (36, i_psh (.int (-1)) 37), (37, i_iceq 50 40), (40, i_ald 2 41), (41, i_ild 4 43), (43, i_aldI 31 44), (44, i_ald 2 45), (45, i_ild 3 46), (46, i_aldI 31 47), (47, i_icle 53 50), (50, i_msk [true, true, true, false, true] (i_ild 4 52)), (52, i_ist 3 53), (53, i_msk [true, true, true, true, true] (i_inc 4 1 56)), (56, i_goto 23), (59, i_ild 1 60), (60, i_ifeq 68 63), (63, i_ild 3 64), (64, i_psh (.int (-1)) 65), (65, i_icne 72 68), (68, i_msk [false, false, false, true, false] (i_ild 3 69)), (69, i_goto 75), (72, i_ald 2 73), (73, i_ild 3 74), (74, i_aldI 31 75), (75, i_msk [false, false, false, false, false] (i_iret))]
theorem cs84_0 : ∀ q ∈ cl84_0, Sd gd_mt M84 q.1 q.2 := gd_ac r84_0 (gd_ac r84_1 (gd_ac r84_2 (gd_ac r84_3 (gd_ac r84_4 (gd_ac r84_7 (gd_ac r84_8 (gd_ac r84_11 (gd_ac r84_14 (gd_ac r84_17 (gd_ac r84_18 (gd_ac r84_19 (gd_ac r84_20 (gd_ac r84_21 (gd_ac r84_23 (gd_ac r84_25 (gd_ac r84_26 (gd_ac r84_29 (gd_ac r84_32 (gd_ac r84_35 (gd_ac r84_36 (gd_ac r84_37 (gd_ac r84_40 (gd_ac r84_41 (gd_ac r84_43 (gd_ac r84_44 (gd_ac r84_45 (gd_ac r84_46 (gd_ac r84_47 (gd_ac r84_50 (gd_ac r84_52 (gd_ac r84_53 (gd_ac r84_56 (gd_ac r84_59 (gd_ac r84_60 (gd_ac r84_63 (gd_ac r84_64 (gd_ac r84_65 (gd_ac r84_68 (gd_ac r84_69 (gd_ac r84_72 (gd_ac r84_73 (gd_ac r84_74 (gd_ac r84_75 (gd_an))))))))))))))))))))))))))))))))))))))))))))
def cd84 (pc : Nat) : gd_I := lkI cl84_0 pc
theorem cg84 : ∀ pc, Sd gd_mt M84 pc (cd84 pc) := sd_lk cs84_0
theorem r85_0 : Sd gd_mt M85 0 (i_ald 0 1) := sd_aload_n dX1_gained_0 rfl rfl
theorem r85_1 : Sd gd_mt M85 1 (i_ild 1 2) := sd_iload_n dX1_gained_1 rfl rfl
theorem r85_2 : Sd gd_mt M85 2 (i_psh (.int 0) 3) := sd_iconst dX1_gained_2 (by decide) rfl
theorem r85_3 : Sd gd_mt M85 3 (i_psh (.int 2) 4) := sd_iconst dX1_gained_3 (by decide) rfl
theorem r85_4 : Sd gd_mt M85 4 (i_cV 53 3 1 7) := sd_cV2 e53 cal53 q513 q515 (rfl : gd_cl 1 = some _) qs2 dX1_gained_4 rfl
theorem r85_7 : Sd gd_mt M85 7 (i_msk [true, true, false, false, false] (i_ald 0 8)) := sd_msk _ (sd_aload_n dX1_gained_7 rfl rfl)
theorem r85_8 : Sd gd_mt M85 8 (i_getR 1 2 11) := sd_getR ck1 (by decide) rfl (.inl q358) dX1_gained_8 rfl
theorem r85_11 : Sd gd_mt M85 11 (i_cV 145 0 3 14) := sd_cV2 e145 cal145 q345 q346 (rfl : gd_cl 3 = some _) q347 dX1_gained_11 rfl
theorem r85_14 : Sd gd_mt M85 14 (i_msk [true, true, false, false, false] (i_ast 2 15)) := sd_msk _ (sd_astore_n dX1_gained_14 rfl (by decide) rfl)
theorem r85_15 : Sd gd_mt M85 15 (i_psh (.int 0) 16) := sd_iconst dX1_gained_15 (by decide) rfl
theorem r85_16 : Sd gd_mt M85 16 (i_ist 3 17) := sd_istore_n dX1_gained_16 rfl (by decide) rfl
theorem r85_17 : Sd gd_mt M85 17 (i_psh (.int 0) 18) := sd_iconst dX1_gained_17 (by decide) rfl
theorem r85_18 : Sd gd_mt M85 18 (i_ist 4 20) := sd_istore dX1_gained_18 (by decide) rfl
theorem r85_20 : Sd gd_mt M85 20 (i_msk [true, true, true, true, true] (i_ild 4 22)) := sd_msk _ (sd_iload dX1_gained_20 rfl)
theorem r85_22 : Sd gd_mt M85 22 (i_ald 0 23) := sd_aload_n dX1_gained_22 rfl rfl
theorem r85_23 : Sd gd_mt M85 23 (i_getR 1 15 26) := sd_getR ck1 (by decide) rfl (.inl q371) dX1_gained_23 rfl
theorem r85_26 : Sd gd_mt M85 26 (i_getI 6 7 29) := sd_getI ck6 (by decide) rfl (.inr ⟨_, q238⟩) dX1_gained_26 rfl
theorem r85_29 : Sd gd_mt M85 29 (i_icge 71 32) := sd_icge dX1_gained_29 (by decide) rfl
theorem r85_32 : Sd gd_mt M85 32 (i_ald 2 33) := sd_aload_n dX1_gained_32 rfl rfl
theorem r85_33 : Sd gd_mt M85 33 (i_getR 4 3 36) := sd_getR ck4 (by decide) rfl (.inr ⟨_, q264⟩) dX1_gained_33 rfl
theorem r85_36 : Sd gd_mt M85 36 (i_ild 4 38) := sd_iload dX1_gained_36 rfl
theorem r85_38 : Sd gd_mt M85 38 (i_aldI 31 39) := sd_iald dX1_gained_38 rfl
theorem r85_39 : Sd gd_mt M85 39 (i_psh (.int (-1)) 40) := sd_iconst dX1_gained_39 (by decide) rfl
theorem r85_40 : Sd gd_mt M85 40 (i_iceq 65 43) := sd_iceq dX1_gained_40 (by decide) rfl
theorem r85_43 : Sd gd_mt M85 43 (i_ald 2 44) := sd_aload_n dX1_gained_43 rfl rfl
theorem r85_44 : Sd gd_mt M85 44 (i_ild 4 46) := sd_iload dX1_gained_44 rfl
theorem r85_46 : Sd gd_mt M85 46 (i_cV 155 1 4 49) := sd_cV2 e155 cal155 q1228 q1059 (rfl : gd_cl 4 = some _) q1060 dX1_gained_46 rfl
theorem r85_49 : Sd gd_mt M85 49 (i_msk [true, true, true, true, true] (i_cS 4 1 52)) := sd_msk _ (sd_cS2 e4 cal4 q1362 q1363 dX1_gained_49 rfl)
theorem r85_52 : Sd gd_mt M85 52 (i_msk [true, true, true, true, true] (i_psh (.int 1) 53)) := sd_msk _ (sd_iconst dX1_gained_52 (by decide) rfl)
theorem r85_53 : Sd gd_mt M85 53 (i_ild 1 54) := sd_iload_n dX1_gained_53 rfl rfl
theorem r85_54 : Sd gd_mt M85 54 (i_isub 55) := sd_isub dX1_gained_54 rfl
theorem r85_55 : Sd gd_mt M85 55 (i_icne 65 58) := sd_icne dX1_gained_55 (by decide) rfl
theorem r85_58 : Sd gd_mt M85 58 (i_ild 3 59) := sd_iload_n dX1_gained_58 rfl rfl
theorem r85_59 : Sd gd_mt M85 59 (i_psh (.int 1) 60) := sd_iconst dX1_gained_59 (by decide) rfl
theorem r85_60 : Sd gd_mt M85 60 (i_ild 4 62) := sd_iload dX1_gained_60 rfl
theorem r85_62 : Sd gd_mt M85 62 (i_ishl 63) := sd_ishl dX1_gained_62 rfl
theorem r85_63 : Sd gd_mt M85 63 (i_ior 64) := sd_ior dX1_gained_63 rfl
theorem r85_64 : Sd gd_mt M85 64 (i_ist 3 65) := sd_istore_n dX1_gained_64 rfl (by decide) rfl
theorem r85_65 : Sd gd_mt M85 65 (i_msk [true, true, true, true, true] (i_inc 4 1 68)) := sd_msk _ (sd_iinc dX1_gained_65 (by decide) (by decide) rfl)
theorem r85_68 : Sd gd_mt M85 68 (i_goto 20) := sd_goto dX1_gained_68 (by decide)
theorem r85_71 : Sd gd_mt M85 71 (i_ild 3 72) := sd_iload_n dX1_gained_71 rfl rfl
theorem r85_72 : Sd gd_mt M85 72 (i_iret) := sd_iret rfl dX1_gained_72
def cl85_0 : List (Nat × gd_I) := [(0, i_ald 0 1), (1, i_ild 1 2), (2, i_psh (.int 0) 3), (3, i_psh (.int 2) 4), (4, i_cV 53 3 1 7), (7, i_msk [true, true, false, false, false] (i_ald 0 8)), (8, i_getR 1 2 11), (11, i_cV 145 0 3 14), (14, i_msk [true, true, false, false, false] (i_ast 2 15)), (15, i_psh (.int 0) 16), (16, i_ist 3 17), (17, i_psh (.int 0) 18), (18, i_ist 4 20), (20, i_msk [true, true, true, true, true] (i_ild 4 22)), (22, i_ald 0 23), (23, i_getR 1 15 26), (26, i_getI 6 7 29), (29, i_icge 71 32), (32, i_ald 2 33), (33, i_getR 4 3 36), (36, i_ild 4 38), (38, i_aldI 31 39), (39, i_psh (.int (-1)) 40), (40, i_iceq 65 43), (43, i_ald 2 44), (44, i_ild 4 46), (46, i_cV 155 1 4 49), (49, i_msk [true, true, true, true, true] (i_cS 4 1 52)), (52, i_msk [true, true, true, true, true] (i_psh (.int 1) 53)), (53, i_ild 1 54), (54, i_isub 55), (55, i_icne 65 58), (58, i_ild 3 59), (59, i_psh (.int 1) 60), (60, i_ild 4 62), (62, i_ishl 63), (63, i_ior 64), (64, i_ist 3 65), (65, i_msk [true, true, true, true, true] (i_inc 4 1 68)), (68, i_goto 20), (71, i_ild 3 72), (72, i_iret)]
theorem cs85_0 : ∀ q ∈ cl85_0, Sd gd_mt M85 q.1 q.2 := gd_ac r85_0 (gd_ac r85_1 (gd_ac r85_2 (gd_ac r85_3 (gd_ac r85_4 (gd_ac r85_7 (gd_ac r85_8 (gd_ac r85_11 (gd_ac r85_14 (gd_ac r85_15 (gd_ac r85_16 (gd_ac r85_17 (gd_ac r85_18 (gd_ac r85_20 (gd_ac r85_22 (gd_ac r85_23 (gd_ac r85_26 (gd_ac r85_29 (gd_ac r85_32 (gd_ac r85_33 (gd_ac r85_36 (gd_ac r85_38 (gd_ac r85_39 (gd_ac r85_40 (gd_ac r85_43 (gd_ac r85_44 (gd_ac r85_46 (gd_ac r85_49 (gd_ac r85_52 (gd_ac r85_53 (gd_ac r85_54 (gd_ac r85_55 (gd_ac r85_58 (gd_ac r85_59 (gd_ac r85_60 (gd_ac r85_62 (gd_ac r85_63 (gd_ac r85_64 (gd_ac r85_65 (gd_ac r85_68 (gd_ac r85_71 (gd_ac r85_72 (gd_an))))))))))))))))))))))))))))))))))))))))))
def cd85 (pc : Nat) : gd_I := lkI cl85_0 pc
theorem cg85 : ∀ pc, Sd gd_mt M85 pc (cd85 pc) := sd_lk cs85_0
theorem r86_0 : Sd gd_mt M86 0 (i_ald 0 1) := sd_aload_n dX1_lies_0 rfl rfl
theorem r86_1 : Sd gd_mt M86 1 (i_ild 1 2) := sd_iload_n dX1_lies_1 rfl rfl
theorem r86_2 : Sd gd_mt M86 2 (i_psh (.int 0) 3) := sd_iconst dX1_lies_2 (by decide) rfl
theorem r86_3 : Sd gd_mt M86 3 (i_psh (.int 5994) 6) := sd_sipush dX1_lies_3 (by decide) rfl
theorem r86_6 : Sd gd_mt M86 6 (i_cV 53 3 1 9) := sd_cV2 e53 cal53 q513 q515 (rfl : gd_cl 1 = some _) qs2 dX1_lies_6 rfl
theorem r86_9 : Sd gd_mt M86 9 (i_msk [true, true] (i_ald 0 10)) := sd_msk _ (sd_aload_n dX1_lies_9 rfl rfl)
theorem r86_10 : Sd gd_mt M86 10 (i_getR 1 2 13) := sd_getR ck1 (by decide) rfl (.inl q358) dX1_lies_10 rfl
theorem r86_13 : Sd gd_mt M86 13 (i_cV 145 0 3 16) := sd_cV2 e145 cal145 q345 q346 (rfl : gd_cl 3 = some _) q347 dX1_lies_13 rfl
theorem r86_16 : Sd gd_mt M86 16 (i_msk [false, true] (i_ild 1 17)) := sd_msk _ (sd_iload_n dX1_lies_16 rfl rfl)
theorem r86_17 : Sd gd_mt M86 17 (i_cV 162 1 4 20) := sd_cV2 e162 cal162 q1372 q1132 (rfl : gd_cl 4 = some _) q1133 dX1_lies_17 rfl
theorem r86_20 : Sd gd_mt M86 20 (i_msk [false, false] (i_iret)) := sd_msk _ (sd_iret rfl dX1_lies_20)
def cl86_0 : List (Nat × gd_I) := [(0, i_ald 0 1), (1, i_ild 1 2), (2, i_psh (.int 0) 3), (3, i_psh (.int 5994) 6), (6, i_cV 53 3 1 9), (9, i_msk [true, true] (i_ald 0 10)), (10, i_getR 1 2 13), (13, i_cV 145 0 3 16), (16, i_msk [false, true] (i_ild 1 17)), (17, i_cV 162 1 4 20), (20, i_msk [false, false] (i_iret))]
theorem cs86_0 : ∀ q ∈ cl86_0, Sd gd_mt M86 q.1 q.2 := gd_ac r86_0 (gd_ac r86_1 (gd_ac r86_2 (gd_ac r86_3 (gd_ac r86_6 (gd_ac r86_9 (gd_ac r86_10 (gd_ac r86_13 (gd_ac r86_16 (gd_ac r86_17 (gd_ac r86_20 (gd_an)))))))))))
def cd86 (pc : Nat) : gd_I := lkI cl86_0 pc
theorem cg86 : ∀ pc, Sd gd_mt M86 pc (cd86 pc) := sd_lk cs86_0
theorem r87_0 : Sd gd_mt M87 0 (i_ald 0 1) := sd_aload_n dX1_swells_0 rfl rfl
theorem r87_1 : Sd gd_mt M87 1 (i_ild 1 2) := sd_iload_n dX1_swells_1 rfl rfl
theorem r87_2 : Sd gd_mt M87 2 (i_cV 61 1 1 5) := sd_cV2 e61 cal61 q1192 q1194 (rfl : gd_cl 1 = some _) qs16 dX1_swells_2 rfl
theorem r87_5 : Sd gd_mt M87 5 (i_msk [true, true] (i_ald 0 6)) := sd_msk _ (sd_aload_n dX1_swells_5 rfl rfl)
theorem r87_6 : Sd gd_mt M87 6 (i_getR 1 2 9) := sd_getR ck1 (by decide) rfl (.inl q358) dX1_swells_6 rfl
theorem r87_9 : Sd gd_mt M87 9 (i_cV 145 0 3 12) := sd_cV2 e145 cal145 q345 q346 (rfl : gd_cl 3 = some _) q347 dX1_swells_9 rfl
theorem r87_12 : Sd gd_mt M87 12 (i_msk [false, true] (i_ild 1 13)) := sd_msk _ (sd_iload_n dX1_swells_12 rfl rfl)
theorem r87_13 : Sd gd_mt M87 13 (i_cV 159 1 4 16) := sd_cV2 e159 cal159 q1380 q1112 (rfl : gd_cl 4 = some _) q1113 dX1_swells_13 rfl
theorem r87_16 : Sd gd_mt M87 16 (i_msk [false, false] (i_iret)) := sd_msk _ (sd_iret rfl dX1_swells_16)
def cl87_0 : List (Nat × gd_I) := [(0, i_ald 0 1), (1, i_ild 1 2), (2, i_cV 61 1 1 5), (5, i_msk [true, true] (i_ald 0 6)), (6, i_getR 1 2 9), (9, i_cV 145 0 3 12), (12, i_msk [false, true] (i_ild 1 13)), (13, i_cV 159 1 4 16), (16, i_msk [false, false] (i_iret))]
theorem cs87_0 : ∀ q ∈ cl87_0, Sd gd_mt M87 q.1 q.2 := gd_ac r87_0 (gd_ac r87_1 (gd_ac r87_2 (gd_ac r87_5 (gd_ac r87_6 (gd_ac r87_9 (gd_ac r87_12 (gd_ac r87_13 (gd_ac r87_16 (gd_an)))))))))
def cd87 (pc : Nat) : gd_I := lkI cl87_0 pc
theorem cg87 : ∀ pc, Sd gd_mt M87 pc (cd87 pc) := sd_lk cs87_0
theorem r88_0 : Sd gd_mt M88 0 (i_ald 0 1) := sd_aload_n dX1_sinks_0 rfl rfl
theorem r88_1 : Sd gd_mt M88 1 (i_ild 1 2) := sd_iload_n dX1_sinks_1 rfl rfl
theorem r88_2 : Sd gd_mt M88 2 (i_cV 64 1 1 5) := sd_cV2 e64 cal64 q1223 q1225 (rfl : gd_cl 1 = some _) qs18 dX1_sinks_2 rfl
theorem r88_5 : Sd gd_mt M88 5 (i_msk [true, true, false] (i_ald 0 6)) := sd_msk _ (sd_aload_n dX1_sinks_5 rfl rfl)
theorem r88_6 : Sd gd_mt M88 6 (i_cV 68 0 1 9) := sd_cV2 e68 cal68 q1253 q1255 (rfl : gd_cl 1 = some _) qs19 dX1_sinks_6 rfl
theorem r88_9 : Sd gd_mt M88 9 (i_msk [true, true, false] (i_pop 10)) := sd_msk _ (sd_pop dX1_sinks_9 rfl)
theorem r88_10 : Sd gd_mt M88 10 (i_psh (.int 0) 11) := sd_iconst dX1_sinks_10 (by decide) rfl
theorem r88_11 : Sd gd_mt M88 11 (i_ist 2 12) := sd_istore_n dX1_sinks_11 rfl (by decide) rfl
theorem r88_12 : Sd gd_mt M88 12 (i_msk [true, true, true] (i_ild 2 13)) := sd_msk _ (sd_iload_n dX1_sinks_12 rfl rfl)
theorem r88_13 : Sd gd_mt M88 13 (i_psh (.int 99) 15) := sd_bipush dX1_sinks_13 (by decide) rfl
theorem r88_15 : Sd gd_mt M88 15 (i_icgt 44 18) := sd_icgt dX1_sinks_15 (by decide) rfl
theorem r88_18 : Sd gd_mt M88 18 (i_ald 0 19) := sd_aload_n dX1_sinks_18 rfl rfl
theorem r88_19 : Sd gd_mt M88 19 (i_getR 1 4 22) := sd_getR ck1 (by decide) rfl (.inl q360) dX1_sinks_19 rfl
theorem r88_22 : Sd gd_mt M88 22 (i_ild 1 23) := sd_iload_n dX1_sinks_22 rfl rfl
theorem r88_23 : Sd gd_mt M88 23 (i_cV 155 1 4 26) := sd_cV2 e155 cal155 q1228 q1059 (rfl : gd_cl 4 = some _) q1060 dX1_sinks_23 rfl
theorem r88_26 : Sd gd_mt M88 26 (i_msk [true, true, true] (i_ifge 31 29)) := sd_msk _ (sd_ifge dX1_sinks_26 (by decide) rfl)
theorem r88_29 : Sd gd_mt M88 29 (i_ild 2 30) := sd_iload_n dX1_sinks_29 rfl rfl
theorem r88_30 : Sd gd_mt M88 30 (i_iret) := sd_iret rfl dX1_sinks_30
theorem r88_31 : Sd gd_mt M88 31 (i_ald 0 32) := sd_aload_n dX1_sinks_31 rfl rfl
theorem r88_32 : Sd gd_mt M88 32 (i_getR 1 4 35) := sd_getR ck1 (by decide) rfl (.inl q360) dX1_sinks_32 rfl
theorem r88_35 : Sd gd_mt M88 35 (i_cV 152 0 4 38) := sd_cV2 e152 cal152 q1257 q1047 (rfl : gd_cl 4 = some _) q1048 dX1_sinks_35 rfl
theorem r88_38 : Sd gd_mt M88 38 (i_msk [true, true, true] (i_inc 2 1 41)) := sd_msk _ (sd_iinc dX1_sinks_38 (by decide) (by decide) rfl)
theorem r88_41 : Sd gd_mt M88 41 (i_goto 12) := sd_goto dX1_sinks_41 (by decide)
theorem r88_44 : Sd gd_mt M88 44 (i_psh (.int (-1)) 45) := sd_iconst dX1_sinks_44 (by decide) rfl
theorem r88_45 : Sd gd_mt M88 45 (i_iret) := sd_iret rfl dX1_sinks_45
def cl88_0 : List (Nat × gd_I) := [(0, i_ald 0 1), (1, i_ild 1 2), (2, i_cV 64 1 1 5), (5, i_msk [true, true, false] (i_ald 0 6)), (6, i_cV 68 0 1 9), (9, i_msk [true, true, false] (i_pop 10)), (10, i_psh (.int 0) 11), (11, i_ist 2 12), (12, i_msk [true, true, true] (i_ild 2 13)), (13, i_psh (.int 99) 15), (15, i_icgt 44 18), (18, i_ald 0 19), (19, i_getR 1 4 22), (22, i_ild 1 23), (23, i_cV 155 1 4 26), (26, i_msk [true, true, true] (i_ifge 31 29)), (29, i_ild 2 30), (30, i_iret), (31, i_ald 0 32), (32, i_getR 1 4 35), (35, i_cV 152 0 4 38), (38, i_msk [true, true, true] (i_inc 2 1 41)), (41, i_goto 12), (44, i_psh (.int (-1)) 45), (45, i_iret)]
theorem cs88_0 : ∀ q ∈ cl88_0, Sd gd_mt M88 q.1 q.2 := gd_ac r88_0 (gd_ac r88_1 (gd_ac r88_2 (gd_ac r88_5 (gd_ac r88_6 (gd_ac r88_9 (gd_ac r88_10 (gd_ac r88_11 (gd_ac r88_12 (gd_ac r88_13 (gd_ac r88_15 (gd_ac r88_18 (gd_ac r88_19 (gd_ac r88_22 (gd_ac r88_23 (gd_ac r88_26 (gd_ac r88_29 (gd_ac r88_30 (gd_ac r88_31 (gd_ac r88_32 (gd_ac r88_35 (gd_ac r88_38 (gd_ac r88_41 (gd_ac r88_44 (gd_ac r88_45 (gd_an)))))))))))))))))))))))))
def cd88 (pc : Nat) : gd_I := lkI cl88_0 pc
theorem cg88 : ∀ pc, Sd gd_mt M88 pc (cd88 pc) := sd_lk cs88_0
theorem r89_0 : Sd gd_mt M89 0 (i_ald 0 1) := sd_aload_n dX1_heads_0 rfl rfl
theorem r89_1 : Sd gd_mt M89 1 (i_ild 1 2) := sd_iload_n dX1_heads_1 rfl rfl
theorem r89_2 : Sd gd_mt M89 2 (i_psh (.int 0) 3) := sd_iconst dX1_heads_2 (by decide) rfl
theorem r89_3 : Sd gd_mt M89 3 (i_psh (.int 1) 4) := sd_iconst dX1_heads_3 (by decide) rfl
theorem r89_4 : Sd gd_mt M89 4 (i_cV 53 3 1 7) := sd_cV2 e53 cal53 q513 q515 (rfl : gd_cl 1 = some _) qs2 dX1_heads_4 rfl
theorem r89_7 : Sd gd_mt M89 7 (i_msk [true, true, false, false, false, false] (i_psh (.int 0) 8)) := sd_msk _ (sd_iconst dX1_heads_7 (by decide) rfl)
theorem r89_8 : Sd gd_mt M89 8 (i_ist 2 9) := sd_istore_n dX1_heads_8 rfl (by decide) rfl
theorem r89_9 : Sd gd_mt M89 9 (i_psh (.int 0) 10) := sd_iconst dX1_heads_9 (by decide) rfl
theorem r89_10 : Sd gd_mt M89 10 (i_ist 3 11) := sd_istore_n dX1_heads_10 rfl (by decide) rfl
theorem r89_11 : Sd gd_mt M89 11 (i_msk [true, true, true, true, false, false] (i_ild 3 12)) := sd_msk _ (sd_iload_n dX1_heads_11 rfl rfl)
theorem r89_12 : Sd gd_mt M89 12 (i_ald 0 13) := sd_aload_n dX1_heads_12 rfl rfl
theorem r89_13 : Sd gd_mt M89 13 (i_getR 1 15 16) := sd_getR ck1 (by decide) rfl (.inl q371) dX1_heads_13 rfl
theorem r89_16 : Sd gd_mt M89 16 (i_getI 6 7 19) := sd_getI ck6 (by decide) rfl (.inr ⟨_, q238⟩) dX1_heads_16 rfl
theorem r89_19 : Sd gd_mt M89 19 (i_icge 143 22) := sd_icge dX1_heads_19 (by decide) rfl
theorem r89_22 : Sd gd_mt M89 22 (i_psh (.int 0) 23) := sd_iconst dX1_heads_22 (by decide) rfl
theorem r89_23 : Sd gd_mt M89 23 (i_ist 4 25) := sd_istore dX1_heads_23 (by decide) rfl
theorem r89_25 : Sd gd_mt M89 25 (i_psh (.int 0) 26) := sd_iconst dX1_heads_25 (by decide) rfl
theorem r89_26 : Sd gd_mt M89 26 (i_ist 5 28) := sd_istore dX1_heads_26 (by decide) rfl
theorem r89_28 : Sd gd_mt M89 28 (i_msk [true, true, true, true, true, true] (i_ild 5 30)) := sd_msk _ (sd_iload dX1_heads_28 rfl)
theorem r89_30 : Sd gd_mt M89 30 (i_ald 0 31) := sd_aload_n dX1_heads_30 rfl rfl
theorem r89_31 : Sd gd_mt M89 31 (i_getR 1 15 34) := sd_getR ck1 (by decide) rfl (.inl q371) dX1_heads_31 rfl
theorem r89_34 : Sd gd_mt M89 34 (i_getI 6 7 37) := sd_getI ck6 (by decide) rfl (.inr ⟨_, q238⟩) dX1_heads_34 rfl
theorem r89_37 : Sd gd_mt M89 37 (i_icge 95 40) := sd_icge dX1_heads_37 (by decide) rfl
theorem r89_40 : Sd gd_mt M89 40 (i_ald 0 41) := sd_aload_n dX1_heads_40 rfl rfl
theorem r89_41 : Sd gd_mt M89 41 (i_getR 1 15 44) := sd_getR ck1 (by decide) rfl (.inl q371) dX1_heads_41 rfl
theorem r89_44 : Sd gd_mt M89 44 (i_getR 6 4 47) := sd_getR ck6 (by decide) rfl (.inr ⟨_, q225⟩) dX1_heads_44 rfl
theorem r89_47 : Sd gd_mt M89 47 (i_ild 3 48) := sd_iload_n dX1_heads_47 rfl rfl
theorem r89_48 : Sd gd_mt M89 48 (i_aldI 31 49) := sd_iald dX1_heads_48 rfl
theorem r89_49 : Sd gd_mt M89 49 (i_ild 5 51) := sd_iload dX1_heads_49 rfl
theorem r89_51 : Sd gd_mt M89 51 (i_ishr 52) := sd_ishr dX1_heads_51 rfl
theorem r89_52 : Sd gd_mt M89 52 (i_psh (.int 1) 53) := sd_iconst dX1_heads_52 (by decide) rfl
theorem r89_53 : Sd gd_mt M89 53 (i_iand 54) := sd_iand dX1_heads_53 rfl
theorem r89_54 : Sd gd_mt M89 54 (i_psh (.int 1) 55) := sd_iconst dX1_heads_54 (by decide) rfl
theorem r89_55 : Sd gd_mt M89 55 (i_icne 89 58) := sd_icne dX1_heads_55 (by decide) rfl
theorem r89_58 : Sd gd_mt M89 58 (i_ald 0 59) := sd_aload_n dX1_heads_58 rfl rfl
theorem r89_59 : Sd gd_mt M89 59 (i_getR 1 2 62) := sd_getR ck1 (by decide) rfl (.inl q358) dX1_heads_59 rfl
theorem r89_62 : Sd gd_mt M89 62 (i_cV 145 0 3 65) := sd_cV2 e145 cal145 q345 q346 (rfl : gd_cl 3 = some _) q347 dX1_heads_62 rfl
theorem r89_65 : Sd gd_mt M89 65 (i_msk [true, true, true, true, true, true] (i_getR 4 1 68)) := sd_msk _ (sd_getR ck4 (by decide) rfl (.inr ⟨_, q260⟩) dX1_heads_65 rfl)
theorem r89_68 : Sd gd_mt M89 68 (i_ild 5 70) := sd_iload dX1_heads_68 rfl
theorem r89_70 : Sd gd_mt M89 70 (i_aldI 31 71) := sd_iald dX1_heads_70 rfl
theorem r89_71 : Sd gd_mt M89 71 (i_ald 0 72) := sd_aload_n dX1_heads_71 rfl rfl
theorem r89_72 : Sd gd_mt M89 72 (i_getR 1 2 75) := sd_getR ck1 (by decide) rfl (.inl q358) dX1_heads_72 rfl
theorem r89_75 : Sd gd_mt M89 75 (i_cV 145 0 3 78) := sd_cV2 e145 cal145 q345 q346 (rfl : gd_cl 3 = some _) q347 dX1_heads_75 rfl
theorem r89_78 : Sd gd_mt M89 78 (i_msk [true, true, true, true, true, true] (i_getR 4 1 81)) := sd_msk _ (sd_getR ck4 (by decide) rfl (.inr ⟨_, q260⟩) dX1_heads_78 rfl)
theorem r89_81 : Sd gd_mt M89 81 (i_ild 3 82) := sd_iload_n dX1_heads_81 rfl rfl
theorem r89_82 : Sd gd_mt M89 82 (i_aldI 31 83) := sd_iald dX1_heads_82 rfl
theorem r89_83 : Sd gd_mt M89 83 (i_icle 89 86) := sd_icle dX1_heads_83 (by decide) rfl
theorem r89_86 : Sd gd_mt M89 86 (i_inc 4 1 89) := sd_iinc dX1_heads_86 (by decide) (by decide) rfl
def cl89_0 : List (Nat × gd_I) := [(0, i_ald 0 1), (1, i_ild 1 2), (2, i_psh (.int 0) 3), (3, i_psh (.int 1) 4), (4, i_cV 53 3 1 7), (7, i_msk [true, true, false, false, false, false] (i_psh (.int 0) 8)), (8, i_ist 2 9), (9, i_psh (.int 0) 10), (10, i_ist 3 11), (11, i_msk [true, true, true, true, false, false] (i_ild 3 12)), (12, i_ald 0 13), (13, i_getR 1 15 16), (16, i_getI 6 7 19), (19, i_icge 143 22), (22, i_psh (.int 0) 23), (23, i_ist 4 25), (25, i_psh (.int 0) 26), (26, i_ist 5 28), (28, i_msk [true, true, true, true, true, true] (i_ild 5 30)), (30, i_ald 0 31), (31, i_getR 1 15 34), (34, i_getI 6 7 37), (37, i_icge 95 40), (40, i_ald 0 41), (41, i_getR 1 15 44), (44, i_getR 6 4 47), (47, i_ild 3 48), (48, i_aldI 31 49), (49, i_ild 5 51), (51, i_ishr 52), (52, i_psh (.int 1) 53), (53, i_iand 54), (54, i_psh (.int 1) 55), (55, i_icne 89 58), (58, i_ald 0 59), (59, i_getR 1 2 62), (62, i_cV 145 0 3 65), (65, i_msk [true, true, true, true, true, true] (i_getR 4 1 68)), (68, i_ild 5 70), (70, i_aldI 31 71), (71, i_ald 0 72), (72, i_getR 1 2 75), (75, i_cV 145 0 3 78), (78, i_msk [true, true, true, true, true, true] (i_getR 4 1 81)), (81, i_ild 3 82), (82, i_aldI 31 83), (83, i_icle 89 86), (86, i_inc 4 1 89)]
theorem cs89_0 : ∀ q ∈ cl89_0, Sd gd_mt M89 q.1 q.2 := gd_ac r89_0 (gd_ac r89_1 (gd_ac r89_2 (gd_ac r89_3 (gd_ac r89_4 (gd_ac r89_7 (gd_ac r89_8 (gd_ac r89_9 (gd_ac r89_10 (gd_ac r89_11 (gd_ac r89_12 (gd_ac r89_13 (gd_ac r89_16 (gd_ac r89_19 (gd_ac r89_22 (gd_ac r89_23 (gd_ac r89_25 (gd_ac r89_26 (gd_ac r89_28 (gd_ac r89_30 (gd_ac r89_31 (gd_ac r89_34 (gd_ac r89_37 (gd_ac r89_40 (gd_ac r89_41 (gd_ac r89_44 (gd_ac r89_47 (gd_ac r89_48 (gd_ac r89_49 (gd_ac r89_51 (gd_ac r89_52 (gd_ac r89_53 (gd_ac r89_54 (gd_ac r89_55 (gd_ac r89_58 (gd_ac r89_59 (gd_ac r89_62 (gd_ac r89_65 (gd_ac r89_68 (gd_ac r89_70 (gd_ac r89_71 (gd_ac r89_72 (gd_ac r89_75 (gd_ac r89_78 (gd_ac r89_81 (gd_ac r89_82 (gd_ac r89_83 (gd_ac r89_86 (gd_an))))))))))))))))))))))))))))))))))))))))))))))))
theorem r89_89 : Sd gd_mt M89 89 (i_msk [true, true, true, true, true, true] (i_inc 5 1 92)) := sd_msk _ (sd_iinc dX1_heads_89 (by decide) (by decide) rfl)
theorem r89_92 : Sd gd_mt M89 92 (i_goto 28) := sd_goto dX1_heads_92 (by decide)
theorem r89_95 : Sd gd_mt M89 95 (i_ild 1 96) := sd_iload_n dX1_heads_95 rfl rfl
theorem r89_96 : Sd gd_mt M89 96 (i_ifne 114 99) := sd_ifne dX1_heads_96 (by decide) rfl
theorem r89_99 : Sd gd_mt M89 99 (i_ald 0 100) := sd_aload_n dX1_heads_99 rfl rfl
theorem r89_100 : Sd gd_mt M89 100 (i_getR 1 15 103) := sd_getR ck1 (by decide) rfl (.inl q371) dX1_heads_100 rfl
theorem r89_103 : Sd gd_mt M89 103 (i_getR 6 4 106) := sd_getR ck6 (by decide) rfl (.inr ⟨_, q225⟩) dX1_heads_103 rfl
theorem r89_106 : Sd gd_mt M89 106 (i_ild 3 107) := sd_iload_n dX1_heads_106 rfl rfl
theorem r89_107 : Sd gd_mt M89 107 (i_aldI 31 108) := sd_iald dX1_heads_107 rfl
theorem r89_108 : Sd gd_mt M89 108 (i_ifne 137 111) := sd_ifne dX1_heads_108 (by decide) rfl
theorem r89_111 : Sd gd_mt M89 111 (i_goto 131) := sd_goto dX1_heads_111 (by decide)
theorem r89_114 : Sd gd_mt M89 114 (i_ald 0 115) := sd_aload_n dX1_heads_114 rfl rfl
theorem r89_115 : Sd gd_mt M89 115 (i_getR 1 15 118) := sd_getR ck1 (by decide) rfl (.inl q371) dX1_heads_115 rfl
theorem r89_118 : Sd gd_mt M89 118 (i_getR 6 4 121) := sd_getR ck6 (by decide) rfl (.inr ⟨_, q225⟩) dX1_heads_118 rfl
theorem r89_121 : Sd gd_mt M89 121 (i_ild 3 122) := sd_iload_n dX1_heads_121 rfl rfl
theorem r89_122 : Sd gd_mt M89 122 (i_aldI 31 123) := sd_iald dX1_heads_122 rfl
theorem r89_123 : Sd gd_mt M89 123 (i_ifeq 137 126) := sd_ifeq dX1_heads_123 (by decide) rfl
theorem r89_126 : Sd gd_mt M89 126 (i_ild 4 128) := sd_iload dX1_heads_126 rfl
theorem r89_128 : Sd gd_mt M89 128 (i_ifne 137 131) := sd_ifne dX1_heads_128 (by decide) rfl
theorem r89_131 : Sd gd_mt M89 131 (i_msk [true, true, true, true, false, false] (i_ild 2 132)) := sd_msk _ (sd_iload_n dX1_heads_131 rfl rfl)
theorem r89_132 : Sd gd_mt M89 132 (i_psh (.int 1) 133) := sd_iconst dX1_heads_132 (by decide) rfl
theorem r89_133 : Sd gd_mt M89 133 (i_ild 3 134) := sd_iload_n dX1_heads_133 rfl rfl
theorem r89_134 : Sd gd_mt M89 134 (i_ishl 135) := sd_ishl dX1_heads_134 rfl
theorem r89_135 : Sd gd_mt M89 135 (i_ior 136) := sd_ior dX1_heads_135 rfl
theorem r89_136 : Sd gd_mt M89 136 (i_ist 2 137) := sd_istore_n dX1_heads_136 rfl (by decide) rfl
theorem r89_137 : Sd gd_mt M89 137 (i_msk [true, true, true, true, false, false] (i_inc 3 1 140)) := sd_msk _ (sd_iinc dX1_heads_137 (by decide) (by decide) rfl)
theorem r89_140 : Sd gd_mt M89 140 (i_goto 11) := sd_goto dX1_heads_140 (by decide)
theorem r89_143 : Sd gd_mt M89 143 (i_ild 2 144) := sd_iload_n dX1_heads_143 rfl rfl
theorem r89_144 : Sd gd_mt M89 144 (i_iret) := sd_iret rfl dX1_heads_144
def cl89_1 : List (Nat × gd_I) := [(89, i_msk [true, true, true, true, true, true] (i_inc 5 1 92)), (92, i_goto 28), (95, i_ild 1 96), (96, i_ifne 114 99), (99, i_ald 0 100), (100, i_getR 1 15 103), (103, i_getR 6 4 106), (106, i_ild 3 107), (107, i_aldI 31 108), (108, i_ifne 137 111), (111, i_goto 131), (114, i_ald 0 115), (115, i_getR 1 15 118), (118, i_getR 6 4 121), (121, i_ild 3 122), (122, i_aldI 31 123), (123, i_ifeq 137 126), (126, i_ild 4 128), (128, i_ifne 137 131), (131, i_msk [true, true, true, true, false, false] (i_ild 2 132)), (132, i_psh (.int 1) 133), (133, i_ild 3 134), (134, i_ishl 135), (135, i_ior 136), (136, i_ist 2 137), (137, i_msk [true, true, true, true, false, false] (i_inc 3 1 140)), (140, i_goto 11), (143, i_ild 2 144), (144, i_iret)]
theorem cs89_1 : ∀ q ∈ cl89_1, Sd gd_mt M89 q.1 q.2 := gd_ac r89_89 (gd_ac r89_92 (gd_ac r89_95 (gd_ac r89_96 (gd_ac r89_99 (gd_ac r89_100 (gd_ac r89_103 (gd_ac r89_106 (gd_ac r89_107 (gd_ac r89_108 (gd_ac r89_111 (gd_ac r89_114 (gd_ac r89_115 (gd_ac r89_118 (gd_ac r89_121 (gd_ac r89_122 (gd_ac r89_123 (gd_ac r89_126 (gd_ac r89_128 (gd_ac r89_131 (gd_ac r89_132 (gd_ac r89_133 (gd_ac r89_134 (gd_ac r89_135 (gd_ac r89_136 (gd_ac r89_137 (gd_ac r89_140 (gd_ac r89_143 (gd_ac r89_144 (gd_an)))))))))))))))))))))))))))))
def cd89 (pc : Nat) : gd_I := if pc < 89 then lkI cl89_0 pc else lkI cl89_1 pc
theorem cg89 : ∀ pc, Sd gd_mt M89 pc (cd89 pc) := by
  intro pc
  unfold cd89
  by_cases h0 : pc < 89
  · rw [if_pos h0]; exact sd_lk cs89_0 pc
  rw [if_neg h0]
  exact sd_lk cs89_1 pc
theorem r90_0 : Sd gd_mt M90 0 (i_ald 0 1) := sd_aload_n dX1_driest_0 rfl rfl
theorem r90_1 : Sd gd_mt M90 1 (i_ild 1 2) := sd_iload_n dX1_driest_1 rfl rfl
theorem r90_2 : Sd gd_mt M90 2 (i_psh (.int 0) 3) := sd_iconst dX1_driest_2 (by decide) rfl
theorem r90_3 : Sd gd_mt M90 3 (i_psh (.int 1) 4) := sd_iconst dX1_driest_3 (by decide) rfl
theorem r90_4 : Sd gd_mt M90 4 (i_cV 53 3 1 7) := sd_cV2 e53 cal53 q513 q515 (rfl : gd_cl 1 = some _) qs2 dX1_driest_4 rfl
theorem r90_7 : Sd gd_mt M90 7 (i_msk [true, true, false, false] (i_psh (.int 0) 8)) := sd_msk _ (sd_iconst dX1_driest_7 (by decide) rfl)
theorem r90_8 : Sd gd_mt M90 8 (i_ist 2 9) := sd_istore_n dX1_driest_8 rfl (by decide) rfl
theorem r90_9 : Sd gd_mt M90 9 (i_psh (.int 1) 10) := sd_iconst dX1_driest_9 (by decide) rfl
theorem r90_10 : Sd gd_mt M90 10 (i_ist 3 11) := sd_istore_n dX1_driest_10 rfl (by decide) rfl
theorem r90_11 : Sd gd_mt M90 11 (i_msk [true, true, true, true] (i_ild 3 12)) := sd_msk _ (sd_iload_n dX1_driest_11 rfl rfl)
theorem r90_12 : Sd gd_mt M90 12 (i_psh (.int 12) 14) := sd_bipush dX1_driest_12 (by decide) rfl
theorem r90_14 : Sd gd_mt M90 14 (i_icge 46 17) := sd_icge dX1_driest_14 (by decide) rfl
theorem r90_17 : Sd gd_mt M90 17 (i_ald 0 18) := sd_aload_n dX1_driest_17 rfl rfl
theorem r90_18 : Sd gd_mt M90 18 (i_getR 1 15 21) := sd_getR ck1 (by decide) rfl (.inl q371) dX1_driest_18 rfl
theorem r90_21 : Sd gd_mt M90 21 (i_getR 6 5 24) := sd_getR ck6 (by decide) rfl (.inr ⟨_, q229⟩) dX1_driest_21 rfl
theorem r90_24 : Sd gd_mt M90 24 (i_ild 3 25) := sd_iload_n dX1_driest_24 rfl rfl
theorem r90_25 : Sd gd_mt M90 25 (i_aldI 31 26) := sd_iald dX1_driest_25 rfl
theorem r90_26 : Sd gd_mt M90 26 (i_ald 0 27) := sd_aload_n dX1_driest_26 rfl rfl
theorem r90_27 : Sd gd_mt M90 27 (i_getR 1 15 30) := sd_getR ck1 (by decide) rfl (.inl q371) dX1_driest_27 rfl
theorem r90_30 : Sd gd_mt M90 30 (i_getR 6 5 33) := sd_getR ck6 (by decide) rfl (.inr ⟨_, q229⟩) dX1_driest_30 rfl
theorem r90_33 : Sd gd_mt M90 33 (i_ild 2 34) := sd_iload_n dX1_driest_33 rfl rfl
theorem r90_34 : Sd gd_mt M90 34 (i_aldI 31 35) := sd_iald dX1_driest_34 rfl
theorem r90_35 : Sd gd_mt M90 35 (i_icge 40 38) := sd_icge dX1_driest_35 (by decide) rfl
theorem r90_38 : Sd gd_mt M90 38 (i_ild 3 39) := sd_iload_n dX1_driest_38 rfl rfl
theorem r90_39 : Sd gd_mt M90 39 (i_ist 2 40) := sd_istore_n dX1_driest_39 rfl (by decide) rfl
theorem r90_40 : Sd gd_mt M90 40 (i_msk [true, true, true, true] (i_inc 3 1 43)) := sd_msk _ (sd_iinc dX1_driest_40 (by decide) (by decide) rfl)
theorem r90_43 : Sd gd_mt M90 43 (i_goto 11) := sd_goto dX1_driest_43 (by decide)
theorem r90_46 : Sd gd_mt M90 46 (i_ild 1 47) := sd_iload_n dX1_driest_46 rfl rfl
theorem r90_47 : Sd gd_mt M90 47 (i_ifne 54 50) := sd_ifne dX1_driest_47 (by decide) rfl
theorem r90_50 : Sd gd_mt M90 50 (i_ild 2 51) := sd_iload_n dX1_driest_50 rfl rfl
theorem r90_51 : Sd gd_mt M90 51 (i_goto 63) := sd_goto dX1_driest_51 (by decide)
theorem r90_54 : Sd gd_mt M90 54 (i_ald 0 55) := sd_aload_n dX1_driest_54 rfl rfl
theorem r90_55 : Sd gd_mt M90 55 (i_getR 1 15 58) := sd_getR ck1 (by decide) rfl (.inl q371) dX1_driest_55 rfl
theorem r90_58 : Sd gd_mt M90 58 (i_getR 6 5 61) := sd_getR ck6 (by decide) rfl (.inr ⟨_, q229⟩) dX1_driest_58 rfl
theorem r90_61 : Sd gd_mt M90 61 (i_ild 2 62) := sd_iload_n dX1_driest_61 rfl rfl
theorem r90_62 : Sd gd_mt M90 62 (i_aldI 31 63) := sd_iald dX1_driest_62 rfl
theorem r90_63 : Sd gd_mt M90 63 (i_msk [false, false, false, false] (i_iret)) := sd_msk _ (sd_iret rfl dX1_driest_63)
def cl90_0 : List (Nat × gd_I) := [(0, i_ald 0 1), (1, i_ild 1 2), (2, i_psh (.int 0) 3), (3, i_psh (.int 1) 4), (4, i_cV 53 3 1 7), (7, i_msk [true, true, false, false] (i_psh (.int 0) 8)), (8, i_ist 2 9), (9, i_psh (.int 1) 10), (10, i_ist 3 11), (11, i_msk [true, true, true, true] (i_ild 3 12)), (12, i_psh (.int 12) 14), (14, i_icge 46 17), (17, i_ald 0 18), (18, i_getR 1 15 21), (21, i_getR 6 5 24), (24, i_ild 3 25), (25, i_aldI 31 26), (26, i_ald 0 27), (27, i_getR 1 15 30), (30, i_getR 6 5 33), (33, i_ild 2 34), (34, i_aldI 31 35), (35, i_icge 40 38), (38, i_ild 3 39), (39, i_ist 2 40), (40, i_msk [true, true, true, true] (i_inc 3 1 43)), (43, i_goto 11), (46, i_ild 1 47), (47, i_ifne 54 50), (50, i_ild 2 51), (51, i_goto 63), (54, i_ald 0 55), (55, i_getR 1 15 58), (58, i_getR 6 5 61), (61, i_ild 2 62), (62, i_aldI 31 63), (63, i_msk [false, false, false, false] (i_iret))]
theorem cs90_0 : ∀ q ∈ cl90_0, Sd gd_mt M90 q.1 q.2 := gd_ac r90_0 (gd_ac r90_1 (gd_ac r90_2 (gd_ac r90_3 (gd_ac r90_4 (gd_ac r90_7 (gd_ac r90_8 (gd_ac r90_9 (gd_ac r90_10 (gd_ac r90_11 (gd_ac r90_12 (gd_ac r90_14 (gd_ac r90_17 (gd_ac r90_18 (gd_ac r90_21 (gd_ac r90_24 (gd_ac r90_25 (gd_ac r90_26 (gd_ac r90_27 (gd_ac r90_30 (gd_ac r90_33 (gd_ac r90_34 (gd_ac r90_35 (gd_ac r90_38 (gd_ac r90_39 (gd_ac r90_40 (gd_ac r90_43 (gd_ac r90_46 (gd_ac r90_47 (gd_ac r90_50 (gd_ac r90_51 (gd_ac r90_54 (gd_ac r90_55 (gd_ac r90_58 (gd_ac r90_61 (gd_ac r90_62 (gd_ac r90_63 (gd_an)))))))))))))))))))))))))))))))))))))
def cd90 (pc : Nat) : gd_I := lkI cl90_0 pc
theorem cg90 : ∀ pc, Sd gd_mt M90 pc (cd90 pc) := sd_lk cs90_0
theorem r91_0 : Sd gd_mt M91 0 (i_ald 0 1) := sd_aload_n dX1_decade_0 rfl rfl
theorem r91_1 : Sd gd_mt M91 1 (i_ild 2 2) := sd_iload_n dX1_decade_1 rfl rfl
theorem r91_2 : Sd gd_mt M91 2 (i_ild 3 3) := sd_iload_n dX1_decade_2 rfl rfl
theorem r91_3 : Sd gd_mt M91 3 (i_cV 92 2 1 6) := sd_cV2 e92 cal92 q1409 q1411 (rfl : gd_cl 1 = some _) qs24 dX1_decade_3 rfl
theorem r91_6 : Sd gd_mt M91 6 (i_msk [true, true, true, true, true, false] (i_ald 0 7)) := sd_msk _ (sd_aload_n dX1_decade_6 rfl rfl)
theorem r91_7 : Sd gd_mt M91 7 (i_ild 4 9) := sd_iload dX1_decade_7 rfl
theorem r91_9 : Sd gd_mt M91 9 (i_psh (.int 0) 10) := sd_iconst dX1_decade_9 (by decide) rfl
theorem r91_10 : Sd gd_mt M91 10 (i_psh (.int 3) 11) := sd_iconst dX1_decade_10 (by decide) rfl
theorem r91_11 : Sd gd_mt M91 11 (i_cV 53 3 1 14) := sd_cV2 e53 cal53 q513 q515 (rfl : gd_cl 1 = some _) qs2 dX1_decade_11 rfl
theorem r91_14 : Sd gd_mt M91 14 (i_msk [true, true, true, true, true, false] (i_ald 0 15)) := sd_msk _ (sd_aload_n dX1_decade_14 rfl rfl)
theorem r91_15 : Sd gd_mt M91 15 (i_ild 1 16) := sd_iload_n dX1_decade_15 rfl rfl
theorem r91_16 : Sd gd_mt M91 16 (i_ild 2 17) := sd_iload_n dX1_decade_16 rfl rfl
theorem r91_17 : Sd gd_mt M91 17 (i_ild 3 18) := sd_iload_n dX1_decade_17 rfl rfl
theorem r91_18 : Sd gd_mt M91 18 (i_cV 93 3 1 21) := sd_cV2 e93 cal93 q1413 q1415 (rfl : gd_cl 1 = some _) qs25 dX1_decade_18 rfl
theorem r91_21 : Sd gd_mt M91 21 (i_msk [true, false, false, false, true, false] (i_ast 5 23)) := sd_msk _ (sd_astore dX1_decade_21 (by decide) rfl)
theorem r91_23 : Sd gd_mt M91 23 (i_ild 4 25) := sd_iload dX1_decade_23 rfl
theorem r91_25 : Sd gd_mt M91 25 (i_ifne 36 28) := sd_ifne dX1_decade_25 (by decide) rfl
theorem r91_28 : Sd gd_mt M91 28 (i_ald 5 30) := sd_aload dX1_decade_28 rfl
theorem r91_30 : Sd gd_mt M91 30 (i_cV 158 0 4 33) := sd_cV2 e158 cal158 q1177 q1071 (rfl : gd_cl 4 = some _) q1072 dX1_decade_30 rfl
theorem r91_33 : Sd gd_mt M91 33 (i_msk [false, false, false, false, false, false] (i_goto 68)) := sd_msk _ (sd_goto dX1_decade_33 (by decide))
theorem r91_36 : Sd gd_mt M91 36 (i_ild 4 38) := sd_iload dX1_decade_36 rfl
theorem r91_38 : Sd gd_mt M91 38 (i_psh (.int 1) 39) := sd_iconst dX1_decade_38 (by decide) rfl
theorem r91_39 : Sd gd_mt M91 39 (i_icne 50 42) := sd_icne dX1_decade_39 (by decide) rfl
theorem r91_42 : Sd gd_mt M91 42 (i_ald 5 44) := sd_aload dX1_decade_42 rfl
theorem r91_44 : Sd gd_mt M91 44 (i_cV 168 0 4 47) := sd_cV2 e168 cal168 q1258 q1259 (rfl : gd_cl 4 = some _) q1260 dX1_decade_44 rfl
theorem r91_47 : Sd gd_mt M91 47 (i_msk [false, false, false, false, false, false] (i_goto 68)) := sd_msk _ (sd_goto dX1_decade_47 (by decide))
theorem r91_50 : Sd gd_mt M91 50 (i_ild 4 52) := sd_iload dX1_decade_50 rfl
theorem r91_52 : Sd gd_mt M91 52 (i_psh (.int 2) 53) := sd_iconst dX1_decade_52 (by decide) rfl
theorem r91_53 : Sd gd_mt M91 53 (i_icne 64 56) := sd_icne dX1_decade_53 (by decide) rfl
theorem r91_56 : Sd gd_mt M91 56 (i_ald 5 58) := sd_aload dX1_decade_56 rfl
theorem r91_58 : Sd gd_mt M91 58 (i_cV 167 0 4 61) := sd_cV2 e167 cal167 q1179 q1180 (rfl : gd_cl 4 = some _) q1181 dX1_decade_58 rfl
theorem r91_61 : Sd gd_mt M91 61 (i_msk [false, false, false, false, false, false] (i_goto 68)) := sd_msk _ (sd_goto dX1_decade_61 (by decide))
theorem r91_64 : Sd gd_mt M91 64 (i_ald 0 65) := sd_aload_n dX1_decade_64 rfl rfl
theorem r91_65 : Sd gd_mt M91 65 (i_getI 1 22 68) := sd_getI ck1 (by decide) rfl (.inl q378) dX1_decade_65 rfl
theorem r91_68 : Sd gd_mt M91 68 (i_msk [false, false, false, false, false, false] (i_iret)) := sd_msk _ (sd_iret rfl dX1_decade_68)
def cl91_0 : List (Nat × gd_I) := [(0, i_ald 0 1), (1, i_ild 2 2), (2, i_ild 3 3), (3, i_cV 92 2 1 6), (6, i_msk [true, true, true, true, true, false] (i_ald 0 7)), (7, i_ild 4 9), (9, i_psh (.int 0) 10), (10, i_psh (.int 3) 11), (11, i_cV 53 3 1 14), (14, i_msk [true, true, true, true, true, false] (i_ald 0 15)), (15, i_ild 1 16), (16, i_ild 2 17), (17, i_ild 3 18), (18, i_cV 93 3 1 21), (21, i_msk [true, false, false, false, true, false] (i_ast 5 23)), (23, i_ild 4 25), (25, i_ifne 36 28), (28, i_ald 5 30), (30, i_cV 158 0 4 33), (33, i_msk [false, false, false, false, false, false] (i_goto 68)), (36, i_ild 4 38), (38, i_psh (.int 1) 39), (39, i_icne 50 42), (42, i_ald 5 44), (44, i_cV 168 0 4 47), (47, i_msk [false, false, false, false, false, false] (i_goto 68)), (50, i_ild 4 52), (52, i_psh (.int 2) 53), (53, i_icne 64 56), (56, i_ald 5 58), (58, i_cV 167 0 4 61), (61, i_msk [false, false, false, false, false, false] (i_goto 68)), (64, i_ald 0 65), (65, i_getI 1 22 68), (68, i_msk [false, false, false, false, false, false] (i_iret))]
theorem cs91_0 : ∀ q ∈ cl91_0, Sd gd_mt M91 q.1 q.2 := gd_ac r91_0 (gd_ac r91_1 (gd_ac r91_2 (gd_ac r91_3 (gd_ac r91_6 (gd_ac r91_7 (gd_ac r91_9 (gd_ac r91_10 (gd_ac r91_11 (gd_ac r91_14 (gd_ac r91_15 (gd_ac r91_16 (gd_ac r91_17 (gd_ac r91_18 (gd_ac r91_21 (gd_ac r91_23 (gd_ac r91_25 (gd_ac r91_28 (gd_ac r91_30 (gd_ac r91_33 (gd_ac r91_36 (gd_ac r91_38 (gd_ac r91_39 (gd_ac r91_42 (gd_ac r91_44 (gd_ac r91_47 (gd_ac r91_50 (gd_ac r91_52 (gd_ac r91_53 (gd_ac r91_56 (gd_ac r91_58 (gd_ac r91_61 (gd_ac r91_64 (gd_ac r91_65 (gd_ac r91_68 (gd_an)))))))))))))))))))))))))))))))))))
def cd91 (pc : Nat) : gd_I := lkI cl91_0 pc
theorem cg91 : ∀ pc, Sd gd_mt M91 pc (cd91 pc) := sd_lk cs91_0
theorem r92_0 : Sd gd_mt M92 0 (i_ald 0 1) := sd_aload_n dX1_decadeOf_0 rfl rfl
theorem r92_1 : Sd gd_mt M92 1 (i_ild 1 2) := sd_iload_n dX1_decadeOf_1 rfl rfl
theorem r92_2 : Sd gd_mt M92 2 (i_psh (.int 0) 3) := sd_iconst dX1_decadeOf_2 (by decide) rfl
theorem r92_3 : Sd gd_mt M92 3 (i_psh (.int 16) 5) := sd_bipush dX1_decadeOf_3 (by decide) rfl
theorem r92_5 : Sd gd_mt M92 5 (i_cV 53 3 1 8) := sd_cV2 e53 cal53 q513 q515 (rfl : gd_cl 1 = some _) qs2 dX1_decadeOf_5 rfl
theorem r92_8 : Sd gd_mt M92 8 (i_msk [true, false, true] (i_ald 0 9)) := sd_msk _ (sd_aload_n dX1_decadeOf_8 rfl rfl)
theorem r92_9 : Sd gd_mt M92 9 (i_ild 2 10) := sd_iload_n dX1_decadeOf_9 rfl rfl
theorem r92_10 : Sd gd_mt M92 10 (i_psh (.int 1) 11) := sd_iconst dX1_decadeOf_10 (by decide) rfl
theorem r92_11 : Sd gd_mt M92 11 (i_psh (.int 96) 13) := sd_bipush dX1_decadeOf_11 (by decide) rfl
theorem r92_13 : Sd gd_mt M92 13 (i_cV 53 3 1 16) := sd_cV2 e53 cal53 q513 q515 (rfl : gd_cl 1 = some _) qs2 dX1_decadeOf_13 rfl
theorem r92_16 : Sd gd_mt M92 16 (i_msk [false, false, false] (i_ret)) := sd_msk _ (sd_ret rfl dX1_decadeOf_16)
def cl92_0 : List (Nat × gd_I) := [(0, i_ald 0 1), (1, i_ild 1 2), (2, i_psh (.int 0) 3), (3, i_psh (.int 16) 5), (5, i_cV 53 3 1 8), (8, i_msk [true, false, true] (i_ald 0 9)), (9, i_ild 2 10), (10, i_psh (.int 1) 11), (11, i_psh (.int 96) 13), (13, i_cV 53 3 1 16), (16, i_msk [false, false, false] (i_ret))]
theorem cs92_0 : ∀ q ∈ cl92_0, Sd gd_mt M92 q.1 q.2 := gd_ac r92_0 (gd_ac r92_1 (gd_ac r92_2 (gd_ac r92_3 (gd_ac r92_5 (gd_ac r92_8 (gd_ac r92_9 (gd_ac r92_10 (gd_ac r92_11 (gd_ac r92_13 (gd_ac r92_16 (gd_an)))))))))))
def cd92 (pc : Nat) : gd_I := lkI cl92_0 pc
theorem cg92 : ∀ pc, Sd gd_mt M92 pc (cd92 pc) := sd_lk cs92_0
theorem r93_0 : Sd gd_mt M93 0 (i_ald 0 1) := sd_aload_n dX1_goes_0 rfl rfl
theorem r93_1 : Sd gd_mt M93 1 (i_ild 1 2) := sd_iload_n dX1_goes_1 rfl rfl
theorem r93_2 : Sd gd_mt M93 2 (i_putI 1 21 5) := sd_putI ck1 (by decide) rfl (.inl q377) (.inl rfl) dX1_goes_2 rfl
theorem r93_5 : Sd gd_mt M93 5 (i_ald 0 6) := sd_aload_n dX1_goes_5 rfl rfl
theorem r93_6 : Sd gd_mt M93 6 (i_psh (.int 0) 7) := sd_iconst dX1_goes_6 (by decide) rfl
theorem r93_7 : Sd gd_mt M93 7 (i_putI 1 22 10) := sd_putI ck1 (by decide) rfl (.inl q378) (.inl rfl) dX1_goes_7 rfl
theorem r93_10 : Sd gd_mt M93 10 (i_ald 0 11) := sd_aload_n dX1_goes_10 rfl rfl
theorem r93_11 : Sd gd_mt M93 11 (i_cV 68 0 1 14) := sd_cV2 e68 cal68 q1253 q1255 (rfl : gd_cl 1 = some _) qs19 dX1_goes_11 rfl
theorem r93_14 : Sd gd_mt M93 14 (i_msk [true, false, true, true, false, false] (i_pop 15)) := sd_msk _ (sd_pop dX1_goes_14 rfl)
theorem r93_15 : Sd gd_mt M93 15 (i_psh (.int 0) 16) := sd_iconst dX1_goes_15 (by decide) rfl
theorem r93_16 : Sd gd_mt M93 16 (i_ist 4 18) := sd_istore dX1_goes_16 (by decide) rfl
theorem r93_18 : Sd gd_mt M93 18 (i_msk [true, false, true, true, true, false] (i_ild 4 20)) := sd_msk _ (sd_iload dX1_goes_18 rfl)
theorem r93_20 : Sd gd_mt M93 20 (i_ild 3 21) := sd_iload_n dX1_goes_20 rfl rfl
theorem r93_21 : Sd gd_mt M93 21 (i_icge 131 24) := sd_icge dX1_goes_21 (by decide) rfl
theorem r93_24 : Sd gd_mt M93 24 (i_ald 0 25) := sd_aload_n dX1_goes_24 rfl rfl
theorem r93_25 : Sd gd_mt M93 25 (i_getR 1 15 28) := sd_getR ck1 (by decide) rfl (.inl q371) dX1_goes_25 rfl
theorem r93_28 : Sd gd_mt M93 28 (i_getI 6 7 31) := sd_getI ck6 (by decide) rfl (.inr ⟨_, q238⟩) dX1_goes_28 rfl
theorem r93_31 : Sd gd_mt M93 31 (i_ifle 118 34) := sd_ifle dX1_goes_31 (by decide) rfl
theorem r93_34 : Sd gd_mt M93 34 (i_ald 0 35) := sd_aload_n dX1_goes_34 rfl rfl
theorem r93_35 : Sd gd_mt M93 35 (i_getR 1 4 38) := sd_getR ck1 (by decide) rfl (.inl q360) dX1_goes_35 rfl
theorem r93_38 : Sd gd_mt M93 38 (i_ald 0 39) := sd_aload_n dX1_goes_38 rfl rfl
theorem r93_39 : Sd gd_mt M93 39 (i_ald 0 40) := sd_aload_n dX1_goes_39 rfl rfl
theorem r93_40 : Sd gd_mt M93 40 (i_getR 1 15 43) := sd_getR ck1 (by decide) rfl (.inl q371) dX1_goes_40 rfl
theorem r93_43 : Sd gd_mt M93 43 (i_getI 6 7 46) := sd_getI ck6 (by decide) rfl (.inr ⟨_, q238⟩) dX1_goes_43 rfl
theorem r93_46 : Sd gd_mt M93 46 (i_cV 94 1 1 49) := sd_cV2 e94 cal94 q1417 q1419 (rfl : gd_cl 1 = some _) qs26 dX1_goes_46 rfl
theorem r93_49 : Sd gd_mt M93 49 (i_msk [true, false, true, true, true, false] (i_cV 160 1 4 52)) := sd_msk _ (sd_cV2 e160 cal160 q1422 q1124 (rfl : gd_cl 4 = some _) q1125 dX1_goes_49 rfl)
theorem r93_52 : Sd gd_mt M93 52 (i_msk [true, false, true, true, true, false] (i_ifeq 65 55)) := sd_msk _ (sd_ifeq dX1_goes_52 (by decide) rfl)
theorem r93_55 : Sd gd_mt M93 55 (i_ald 0 56) := sd_aload_n dX1_goes_55 rfl rfl
theorem r93_56 : Sd gd_mt M93 56 (i_dup 57) := sd_dup dX1_goes_56 rfl
theorem r93_57 : Sd gd_mt M93 57 (i_getI 1 22 60) := sd_getI ck1 (by decide) rfl (.inl q378) dX1_goes_57 rfl
theorem r93_60 : Sd gd_mt M93 60 (i_psh (.int 1) 61) := sd_iconst dX1_goes_60 (by decide) rfl
theorem r93_61 : Sd gd_mt M93 61 (i_iadd 62) := sd_iadd dX1_goes_61 rfl
theorem r93_62 : Sd gd_mt M93 62 (i_putI 1 22 65) := sd_putI ck1 (by decide) rfl (.inl q378) (.inl rfl) dX1_goes_62 rfl
theorem r93_65 : Sd gd_mt M93 65 (i_msk [true, false, true, true, true, false] (i_ald 0 66)) := sd_msk _ (sd_aload_n dX1_goes_65 rfl rfl)
theorem r93_66 : Sd gd_mt M93 66 (i_ald 0 67) := sd_aload_n dX1_goes_66 rfl rfl
theorem r93_67 : Sd gd_mt M93 67 (i_getR 1 15 70) := sd_getR ck1 (by decide) rfl (.inl q371) dX1_goes_67 rfl
theorem r93_70 : Sd gd_mt M93 70 (i_getI 6 7 73) := sd_getI ck6 (by decide) rfl (.inr ⟨_, q238⟩) dX1_goes_70 rfl
theorem r93_73 : Sd gd_mt M93 73 (i_cV 94 1 1 76) := sd_cV2 e94 cal94 q1417 q1419 (rfl : gd_cl 1 = some _) qs26 dX1_goes_73 rfl
theorem r93_76 : Sd gd_mt M93 76 (i_msk [true, false, true, true, true, false] (i_ist 5 78)) := sd_msk _ (sd_istore dX1_goes_76 (by decide) rfl)
theorem r93_78 : Sd gd_mt M93 78 (i_ald 0 79) := sd_aload_n dX1_goes_78 rfl rfl
theorem r93_79 : Sd gd_mt M93 79 (i_getR 1 4 82) := sd_getR ck1 (by decide) rfl (.inl q360) dX1_goes_79 rfl
theorem r93_82 : Sd gd_mt M93 82 (i_ild 5 84) := sd_iload dX1_goes_82 rfl
theorem r93_84 : Sd gd_mt M93 84 (i_ald 0 85) := sd_aload_n dX1_goes_84 rfl rfl
theorem r93_85 : Sd gd_mt M93 85 (i_psh (.int 10) 87) := sd_bipush dX1_goes_85 (by decide) rfl
theorem r93_87 : Sd gd_mt M93 87 (i_cV 94 1 1 90) := sd_cV2 e94 cal94 q1417 q1419 (rfl : gd_cl 1 = some _) qs26 dX1_goes_87 rfl
theorem r93_90 : Sd gd_mt M93 90 (i_msk [true, false, true, true, true, false] (i_cV 164 2 4 93)) := sd_msk _ (sd_cV2 e164 cal164 q1423 q1144 (rfl : gd_cl 4 = some _) q1145 dX1_goes_90 rfl)
theorem r93_93 : Sd gd_mt M93 93 (i_msk [true, false, true, true, true, false] (i_pop 94)) := sd_msk _ (sd_pop dX1_goes_93 rfl)
theorem r93_94 : Sd gd_mt M93 94 (i_ald 0 95) := sd_aload_n dX1_goes_94 rfl rfl
def cl93_0 : List (Nat × gd_I) := [(0, i_ald 0 1), (1, i_ild 1 2), (2, i_putI 1 21 5), (5, i_ald 0 6), (6, i_psh (.int 0) 7), (7, i_putI 1 22 10), (10, i_ald 0 11), (11, i_cV 68 0 1 14), (14, i_msk [true, false, true, true, false, false] (i_pop 15)), (15, i_psh (.int 0) 16), (16, i_ist 4 18), (18, i_msk [true, false, true, true, true, false] (i_ild 4 20)), (20, i_ild 3 21), (21, i_icge 131 24), (24, i_ald 0 25), (25, i_getR 1 15 28), (28, i_getI 6 7 31), (31, i_ifle 118 34), (34, i_ald 0 35), (35, i_getR 1 4 38), (38, i_ald 0 39), (39, i_ald 0 40), (40, i_getR 1 15 43), (43, i_getI 6 7 46), (46, i_cV 94 1 1 49), (49, i_msk [true, false, true, true, true, false] (i_cV 160 1 4 52)), (52, i_msk [true, false, true, true, true, false] (i_ifeq 65 55)), (55, i_ald 0 56), (56, i_dup 57), (57, i_getI 1 22 60), (60, i_psh (.int 1) 61), (61, i_iadd 62), (62, i_putI 1 22 65), (65, i_msk [true, false, true, true, true, false] (i_ald 0 66)), (66, i_ald 0 67), (67, i_getR 1 15 70), (70, i_getI 6 7 73), (73, i_cV 94 1 1 76), (76, i_msk [true, false, true, true, true, false] (i_ist 5 78)), (78, i_ald 0 79), (79, i_getR 1 4 82), (82, i_ild 5 84), (84, i_ald 0 85), (85, i_psh (.int 10) 87), (87, i_cV 94 1 1 90), (90, i_msk [true, false, true, true, true, false] (i_cV 164 2 4 93)), (93, i_msk [true, false, true, true, true, false] (i_pop 94)), (94, i_ald 0 95)]
theorem cs93_0 : ∀ q ∈ cl93_0, Sd gd_mt M93 q.1 q.2 := gd_ac r93_0 (gd_ac r93_1 (gd_ac r93_2 (gd_ac r93_5 (gd_ac r93_6 (gd_ac r93_7 (gd_ac r93_10 (gd_ac r93_11 (gd_ac r93_14 (gd_ac r93_15 (gd_ac r93_16 (gd_ac r93_18 (gd_ac r93_20 (gd_ac r93_21 (gd_ac r93_24 (gd_ac r93_25 (gd_ac r93_28 (gd_ac r93_31 (gd_ac r93_34 (gd_ac r93_35 (gd_ac r93_38 (gd_ac r93_39 (gd_ac r93_40 (gd_ac r93_43 (gd_ac r93_46 (gd_ac r93_49 (gd_ac r93_52 (gd_ac r93_55 (gd_ac r93_56 (gd_ac r93_57 (gd_ac r93_60 (gd_ac r93_61 (gd_ac r93_62 (gd_ac r93_65 (gd_ac r93_66 (gd_ac r93_67 (gd_ac r93_70 (gd_ac r93_73 (gd_ac r93_76 (gd_ac r93_78 (gd_ac r93_79 (gd_ac r93_82 (gd_ac r93_84 (gd_ac r93_85 (gd_ac r93_87 (gd_ac r93_90 (gd_ac r93_93 (gd_ac r93_94 (gd_an))))))))))))))))))))))))))))))))))))))))))))))))
theorem r93_95 : Sd gd_mt M93 95 (i_psh (.int 16) 97) := sd_bipush dX1_goes_95 (by decide) rfl
theorem r93_97 : Sd gd_mt M93 97 (i_cV 94 1 1 100) := sd_cV2 e94 cal94 q1417 q1419 (rfl : gd_cl 1 = some _) qs26 dX1_goes_97 rfl
theorem r93_100 : Sd gd_mt M93 100 (i_msk [true, false, true, true, true, false] (i_ild 2 101)) := sd_msk _ (sd_iload_n dX1_goes_100 rfl rfl)
theorem r93_101 : Sd gd_mt M93 101 (i_icge 118 104) := sd_icge dX1_goes_101 (by decide) rfl
theorem r93_104 : Sd gd_mt M93 104 (i_ald 0 105) := sd_aload_n dX1_goes_104 rfl rfl
theorem r93_105 : Sd gd_mt M93 105 (i_getR 1 4 108) := sd_getR ck1 (by decide) rfl (.inl q360) dX1_goes_105 rfl
theorem r93_108 : Sd gd_mt M93 108 (i_ald 0 109) := sd_aload_n dX1_goes_108 rfl rfl
theorem r93_109 : Sd gd_mt M93 109 (i_psh (.int 10) 111) := sd_bipush dX1_goes_109 (by decide) rfl
theorem r93_111 : Sd gd_mt M93 111 (i_cV 94 1 1 114) := sd_cV2 e94 cal94 q1417 q1419 (rfl : gd_cl 1 = some _) qs26 dX1_goes_111 rfl
theorem r93_114 : Sd gd_mt M93 114 (i_msk [true, false, true, true, true, false] (i_cV 165 1 4 117)) := sd_msk _ (sd_cV2 e165 cal165 q1424 q1148 (rfl : gd_cl 4 = some _) q1149 dX1_goes_114 rfl)
theorem r93_117 : Sd gd_mt M93 117 (i_msk [true, false, true, true, true, false] (i_pop 118)) := sd_msk _ (sd_pop dX1_goes_117 rfl)
theorem r93_118 : Sd gd_mt M93 118 (i_msk [true, false, true, true, true, false] (i_ald 0 119)) := sd_msk _ (sd_aload_n dX1_goes_118 rfl rfl)
theorem r93_119 : Sd gd_mt M93 119 (i_getR 1 4 122) := sd_getR ck1 (by decide) rfl (.inl q360) dX1_goes_119 rfl
theorem r93_122 : Sd gd_mt M93 122 (i_cV 152 0 4 125) := sd_cV2 e152 cal152 q1257 q1047 (rfl : gd_cl 4 = some _) q1048 dX1_goes_122 rfl
theorem r93_125 : Sd gd_mt M93 125 (i_msk [true, false, true, true, true, false] (i_inc 4 1 128)) := sd_msk _ (sd_iinc dX1_goes_125 (by decide) (by decide) rfl)
theorem r93_128 : Sd gd_mt M93 128 (i_goto 18) := sd_goto dX1_goes_128 (by decide)
theorem r93_131 : Sd gd_mt M93 131 (i_ald 0 132) := sd_aload_n dX1_goes_131 rfl rfl
theorem r93_132 : Sd gd_mt M93 132 (i_getR 1 4 135) := sd_getR ck1 (by decide) rfl (.inl q360) dX1_goes_132 rfl
theorem r93_135 : Sd gd_mt M93 135 (i_aret) := sd_aret (.inl ⟨_, rfl⟩) rfl dX1_goes_135
def cl93_1 : List (Nat × gd_I) := [(95, i_psh (.int 16) 97), (97, i_cV 94 1 1 100), (100, i_msk [true, false, true, true, true, false] (i_ild 2 101)), (101, i_icge 118 104), (104, i_ald 0 105), (105, i_getR 1 4 108), (108, i_ald 0 109), (109, i_psh (.int 10) 111), (111, i_cV 94 1 1 114), (114, i_msk [true, false, true, true, true, false] (i_cV 165 1 4 117)), (117, i_msk [true, false, true, true, true, false] (i_pop 118)), (118, i_msk [true, false, true, true, true, false] (i_ald 0 119)), (119, i_getR 1 4 122), (122, i_cV 152 0 4 125), (125, i_msk [true, false, true, true, true, false] (i_inc 4 1 128)), (128, i_goto 18), (131, i_ald 0 132), (132, i_getR 1 4 135), (135, i_aret)]
theorem cs93_1 : ∀ q ∈ cl93_1, Sd gd_mt M93 q.1 q.2 := gd_ac r93_95 (gd_ac r93_97 (gd_ac r93_100 (gd_ac r93_101 (gd_ac r93_104 (gd_ac r93_105 (gd_ac r93_108 (gd_ac r93_109 (gd_ac r93_111 (gd_ac r93_114 (gd_ac r93_117 (gd_ac r93_118 (gd_ac r93_119 (gd_ac r93_122 (gd_ac r93_125 (gd_ac r93_128 (gd_ac r93_131 (gd_ac r93_132 (gd_ac r93_135 (gd_an)))))))))))))))))))
def cd93 (pc : Nat) : gd_I := if pc < 95 then lkI cl93_0 pc else lkI cl93_1 pc
theorem cg93 : ∀ pc, Sd gd_mt M93 pc (cd93 pc) := by
  intro pc
  unfold cd93
  by_cases h0 : pc < 95
  · rw [if_pos h0]; exact sd_lk cs93_0 pc
  rw [if_neg h0]
  exact sd_lk cs93_1 pc
theorem r94_0 : Sd gd_mt M94 0 (i_ald 0 1) := sd_aload_n dX1_draw_0 rfl rfl
theorem r94_1 : Sd gd_mt M94 1 (i_ald 0 2) := sd_aload_n dX1_draw_1 rfl rfl
theorem r94_2 : Sd gd_mt M94 2 (i_getI 1 21 5) := sd_getI ck1 (by decide) rfl (.inl q377) dX1_draw_2 rfl
theorem r94_5 : Sd gd_mt M94 5 (i_psh (.int 1103515245) 8) := sd_ldcw dX1_draw_5 q1421 rfl
theorem r94_8 : Sd gd_mt M94 8 (i_imul 9) := sd_imul dX1_draw_8 rfl
theorem r94_9 : Sd gd_mt M94 9 (i_psh (.int 12345) 12) := sd_sipush dX1_draw_9 (by decide) rfl
theorem r94_12 : Sd gd_mt M94 12 (i_iadd 13) := sd_iadd dX1_draw_12 rfl
theorem r94_13 : Sd gd_mt M94 13 (i_putI 1 21 16) := sd_putI ck1 (by decide) rfl (.inl q377) (.inl rfl) dX1_draw_13 rfl
theorem r94_16 : Sd gd_mt M94 16 (i_ald 0 17) := sd_aload_n dX1_draw_16 rfl rfl
theorem r94_17 : Sd gd_mt M94 17 (i_getI 1 21 20) := sd_getI ck1 (by decide) rfl (.inl q377) dX1_draw_17 rfl
theorem r94_20 : Sd gd_mt M94 20 (i_psh (.int 16) 22) := sd_bipush dX1_draw_20 (by decide) rfl
theorem r94_22 : Sd gd_mt M94 22 (i_ishr 23) := sd_ishr dX1_draw_22 rfl
theorem r94_23 : Sd gd_mt M94 23 (i_psh (.int 32767) 26) := sd_sipush dX1_draw_23 (by decide) rfl
theorem r94_26 : Sd gd_mt M94 26 (i_iand 27) := sd_iand dX1_draw_26 rfl
theorem r94_27 : Sd gd_mt M94 27 (i_ild 1 28) := sd_iload_n dX1_draw_27 rfl rfl
theorem r94_28 : Sd gd_mt M94 28 (i_irem 29) := sd_irem dX1_draw_28 rfl
theorem r94_29 : Sd gd_mt M94 29 (i_iret) := sd_iret rfl dX1_draw_29
def cl94_0 : List (Nat × gd_I) := [(0, i_ald 0 1), (1, i_ald 0 2), (2, i_getI 1 21 5), (5, i_psh (.int 1103515245) 8), (8, i_imul 9), (9, i_psh (.int 12345) 12), (12, i_iadd 13), (13, i_putI 1 21 16), (16, i_ald 0 17), (17, i_getI 1 21 20), (20, i_psh (.int 16) 22), (22, i_ishr 23), (23, i_psh (.int 32767) 26), (26, i_iand 27), (27, i_ild 1 28), (28, i_irem 29), (29, i_iret)]
theorem cs94_0 : ∀ q ∈ cl94_0, Sd gd_mt M94 q.1 q.2 := gd_ac r94_0 (gd_ac r94_1 (gd_ac r94_2 (gd_ac r94_5 (gd_ac r94_8 (gd_ac r94_9 (gd_ac r94_12 (gd_ac r94_13 (gd_ac r94_16 (gd_ac r94_17 (gd_ac r94_20 (gd_ac r94_22 (gd_ac r94_23 (gd_ac r94_26 (gd_ac r94_27 (gd_ac r94_28 (gd_ac r94_29 (gd_an)))))))))))))))))
def cd94 (pc : Nat) : gd_I := lkI cl94_0 pc
theorem cg94 : ∀ pc, Sd gd_mt M94 pc (cd94 pc) := sd_lk cs94_0
theorem r95_0 : Sd gd_mt M95 0 (i_ald 0 1) := sd_aload_n dX1_span_0 rfl rfl
theorem r95_1 : Sd gd_mt M95 1 (i_ild 2 2) := sd_iload_n dX1_span_1 rfl rfl
theorem r95_2 : Sd gd_mt M95 2 (i_psh (.int 1) 3) := sd_iconst dX1_span_2 (by decide) rfl
theorem r95_3 : Sd gd_mt M95 3 (i_psh (.int 20) 5) := sd_bipush dX1_span_3 (by decide) rfl
theorem r95_5 : Sd gd_mt M95 5 (i_cV 53 3 1 8) := sd_cV2 e53 cal53 q513 q515 (rfl : gd_cl 1 = some _) qs2 dX1_span_5 rfl
theorem r95_8 : Sd gd_mt M95 8 (i_msk [true, true, true, true, true, true, true, false, false, false, false, false] (i_ald 0 9)) := sd_msk _ (sd_aload_n dX1_span_8 rfl rfl)
theorem r95_9 : Sd gd_mt M95 9 (i_ild 3 10) := sd_iload_n dX1_span_9 rfl rfl
theorem r95_10 : Sd gd_mt M95 10 (i_ild 4 12) := sd_iload dX1_span_10 rfl
theorem r95_12 : Sd gd_mt M95 12 (i_cV 92 2 1 15) := sd_cV2 e92 cal92 q1409 q1411 (rfl : gd_cl 1 = some _) qs24 dX1_span_12 rfl
theorem r95_15 : Sd gd_mt M95 15 (i_msk [true, true, true, true, true, true, true, false, false, false, false, false] (i_ald 0 16)) := sd_msk _ (sd_aload_n dX1_span_15 rfl rfl)
theorem r95_16 : Sd gd_mt M95 16 (i_ild 5 18) := sd_iload dX1_span_16 rfl
theorem r95_18 : Sd gd_mt M95 18 (i_psh (.int 0) 19) := sd_iconst dX1_span_18 (by decide) rfl
theorem r95_19 : Sd gd_mt M95 19 (i_psh (.int 2) 20) := sd_iconst dX1_span_19 (by decide) rfl
theorem r95_20 : Sd gd_mt M95 20 (i_cV 53 3 1 23) := sd_cV2 e53 cal53 q513 q515 (rfl : gd_cl 1 = some _) qs2 dX1_span_20 rfl
theorem r95_23 : Sd gd_mt M95 23 (i_msk [true, true, true, true, true, true, true, false, false, false, false, false] (i_ald 0 24)) := sd_msk _ (sd_aload_n dX1_span_23 rfl rfl)
theorem r95_24 : Sd gd_mt M95 24 (i_ild 6 26) := sd_iload dX1_span_24 rfl
theorem r95_26 : Sd gd_mt M95 26 (i_psh (.int 0) 27) := sd_iconst dX1_span_26 (by decide) rfl
theorem r95_27 : Sd gd_mt M95 27 (i_ald 0 28) := sd_aload_n dX1_span_27 rfl rfl
theorem r95_28 : Sd gd_mt M95 28 (i_getR 1 15 31) := sd_getR ck1 (by decide) rfl (.inl q371) dX1_span_28 rfl
theorem r95_31 : Sd gd_mt M95 31 (i_getI 6 7 34) := sd_getI ck6 (by decide) rfl (.inr ⟨_, q238⟩) dX1_span_31 rfl
theorem r95_34 : Sd gd_mt M95 34 (i_psh (.int 1) 35) := sd_iconst dX1_span_34 (by decide) rfl
theorem r95_35 : Sd gd_mt M95 35 (i_isub 36) := sd_isub dX1_span_35 rfl
theorem r95_36 : Sd gd_mt M95 36 (i_cV 53 3 1 39) := sd_cV2 e53 cal53 q513 q515 (rfl : gd_cl 1 = some _) qs2 dX1_span_36 rfl
theorem r95_39 : Sd gd_mt M95 39 (i_msk [true, true, true, true, true, true, true, false, false, false, false, false] (i_psh (.int 0) 40)) := sd_msk _ (sd_iconst dX1_span_39 (by decide) rfl)
theorem r95_40 : Sd gd_mt M95 40 (i_ist 7 42) := sd_istore dX1_span_40 (by decide) rfl
theorem r95_42 : Sd gd_mt M95 42 (i_psh (.int 0) 43) := sd_iconst dX1_span_42 (by decide) rfl
theorem r95_43 : Sd gd_mt M95 43 (i_ist 8 45) := sd_istore dX1_span_43 (by decide) rfl
theorem r95_45 : Sd gd_mt M95 45 (i_psh (.int 0) 46) := sd_iconst dX1_span_45 (by decide) rfl
theorem r95_46 : Sd gd_mt M95 46 (i_ist 9 48) := sd_istore dX1_span_46 (by decide) rfl
theorem r95_48 : Sd gd_mt M95 48 (i_psh (.int 0) 49) := sd_iconst dX1_span_48 (by decide) rfl
theorem r95_49 : Sd gd_mt M95 49 (i_ist 10 51) := sd_istore dX1_span_49 (by decide) rfl
theorem r95_51 : Sd gd_mt M95 51 (i_msk [true, true, true, true, true, true, true, true, true, true, true, false] (i_ild 10 53)) := sd_msk _ (sd_iload dX1_span_51 rfl)
theorem r95_53 : Sd gd_mt M95 53 (i_ild 2 54) := sd_iload_n dX1_span_53 rfl rfl
theorem r95_54 : Sd gd_mt M95 54 (i_icge 126 57) := sd_icge dX1_span_54 (by decide) rfl
theorem r95_57 : Sd gd_mt M95 57 (i_ald 0 58) := sd_aload_n dX1_span_57 rfl rfl
theorem r95_58 : Sd gd_mt M95 58 (i_ild 1 59) := sd_iload_n dX1_span_58 rfl rfl
theorem r95_59 : Sd gd_mt M95 59 (i_ild 10 61) := sd_iload dX1_span_59 rfl
theorem r95_61 : Sd gd_mt M95 61 (i_iadd 62) := sd_iadd dX1_span_61 rfl
theorem r95_62 : Sd gd_mt M95 62 (i_ild 3 63) := sd_iload_n dX1_span_62 rfl rfl
theorem r95_63 : Sd gd_mt M95 63 (i_ild 4 65) := sd_iload dX1_span_63 rfl
theorem r95_65 : Sd gd_mt M95 65 (i_cV 93 3 1 68) := sd_cV2 e93 cal93 q1413 q1415 (rfl : gd_cl 1 = some _) qs25 dX1_span_65 rfl
theorem r95_68 : Sd gd_mt M95 68 (i_msk [true, true, true, true, true, true, true, true, true, true, true, false] (i_ast 11 70)) := sd_msk _ (sd_astore dX1_span_68 (by decide) rfl)
theorem r95_70 : Sd gd_mt M95 70 (i_ild 10 72) := sd_iload dX1_span_70 rfl
theorem r95_72 : Sd gd_mt M95 72 (i_ifne 83 75) := sd_ifne dX1_span_72 (by decide) rfl
theorem r95_75 : Sd gd_mt M95 75 (i_ald 11 77) := sd_aload dX1_span_75 rfl
theorem r95_77 : Sd gd_mt M95 77 (i_cV 158 0 4 80) := sd_cV2 e158 cal158 q1177 q1071 (rfl : gd_cl 4 = some _) q1072 dX1_span_77 rfl
theorem r95_80 : Sd gd_mt M95 80 (i_msk [true, true, true, true, true, true, true, false, true, true, true, true] (i_goto 93)) := sd_msk _ (sd_goto dX1_span_80 (by decide))
theorem r95_83 : Sd gd_mt M95 83 (i_ild 7 85) := sd_iload dX1_span_83 rfl
def cl95_0 : List (Nat × gd_I) := [(0, i_ald 0 1), (1, i_ild 2 2), (2, i_psh (.int 1) 3), (3, i_psh (.int 20) 5), (5, i_cV 53 3 1 8), (8, i_msk [true, true, true, true, true, true, true, false, false, false, false, false] (i_ald 0 9)), (9, i_ild 3 10), (10, i_ild 4 12), (12, i_cV 92 2 1 15), (15, i_msk [true, true, true, true, true, true, true, false, false, false, false, false] (i_ald 0 16)), (16, i_ild 5 18), (18, i_psh (.int 0) 19), (19, i_psh (.int 2) 20), (20, i_cV 53 3 1 23), (23, i_msk [true, true, true, true, true, true, true, false, false, false, false, false] (i_ald 0 24)), (24, i_ild 6 26), (26, i_psh (.int 0) 27), (27, i_ald 0 28), (28, i_getR 1 15 31), (31, i_getI 6 7 34), (34, i_psh (.int 1) 35), (35, i_isub 36), (36, i_cV 53 3 1 39), (39, i_msk [true, true, true, true, true, true, true, false, false, false, false, false] (i_psh (.int 0) 40)), (40, i_ist 7 42), (42, i_psh (.int 0) 43), (43, i_ist 8 45), (45, i_psh (.int 0) 46), (46, i_ist 9 48), (48, i_psh (.int 0) 49), (49, i_ist 10 51), (51, i_msk [true, true, true, true, true, true, true, true, true, true, true, false] (i_ild 10 53)), (53, i_ild 2 54), (54, i_icge 126 57), (57, i_ald 0 58), (58, i_ild 1 59), (59, i_ild 10 61), (61, i_iadd 62), (62, i_ild 3 63), (63, i_ild 4 65), (65, i_cV 93 3 1 68), (68, i_msk [true, true, true, true, true, true, true, true, true, true, true, false] (i_ast 11 70)), (70, i_ild 10 72), (72, i_ifne 83 75), (75, i_ald 11 77), (77, i_cV 158 0 4 80), (80, i_msk [true, true, true, true, true, true, true, false, true, true, true, true] (i_goto 93)), (83, i_ild 7 85)]
theorem cs95_0 : ∀ q ∈ cl95_0, Sd gd_mt M95 q.1 q.2 := gd_ac r95_0 (gd_ac r95_1 (gd_ac r95_2 (gd_ac r95_3 (gd_ac r95_5 (gd_ac r95_8 (gd_ac r95_9 (gd_ac r95_10 (gd_ac r95_12 (gd_ac r95_15 (gd_ac r95_16 (gd_ac r95_18 (gd_ac r95_19 (gd_ac r95_20 (gd_ac r95_23 (gd_ac r95_24 (gd_ac r95_26 (gd_ac r95_27 (gd_ac r95_28 (gd_ac r95_31 (gd_ac r95_34 (gd_ac r95_35 (gd_ac r95_36 (gd_ac r95_39 (gd_ac r95_40 (gd_ac r95_42 (gd_ac r95_43 (gd_ac r95_45 (gd_ac r95_46 (gd_ac r95_48 (gd_ac r95_49 (gd_ac r95_51 (gd_ac r95_53 (gd_ac r95_54 (gd_ac r95_57 (gd_ac r95_58 (gd_ac r95_59 (gd_ac r95_61 (gd_ac r95_62 (gd_ac r95_63 (gd_ac r95_65 (gd_ac r95_68 (gd_ac r95_70 (gd_ac r95_72 (gd_ac r95_75 (gd_ac r95_77 (gd_ac r95_80 (gd_ac r95_83 (gd_an))))))))))))))))))))))))))))))))))))))))))))))))
theorem r95_85 : Sd gd_mt M95 85 (i_ald 11 87) := sd_aload dX1_span_85 rfl
theorem r95_87 : Sd gd_mt M95 87 (i_cV 158 0 4 90) := sd_cV2 e158 cal158 q1177 q1071 (rfl : gd_cl 4 = some _) q1072 dX1_span_87 rfl
theorem r95_90 : Sd gd_mt M95 90 (i_msk [true, true, true, true, true, true, true, false, true, true, true, true] (i_mmin 93)) := sd_msk _ (sd_mmin q780 q759 q106 q760 dX1_span_90 rfl)
theorem r95_93 : Sd gd_mt M95 93 (i_msk [true, true, true, true, true, true, true, false, true, true, true, true] (i_ist 7 95)) := sd_msk _ (sd_istore dX1_span_93 (by decide) rfl)
theorem r95_95 : Sd gd_mt M95 95 (i_ild 8 97) := sd_iload dX1_span_95 rfl
theorem r95_97 : Sd gd_mt M95 97 (i_ald 11 99) := sd_aload dX1_span_97 rfl
theorem r95_99 : Sd gd_mt M95 99 (i_cV 158 0 4 102) := sd_cV2 e158 cal158 q1177 q1071 (rfl : gd_cl 4 = some _) q1072 dX1_span_99 rfl
theorem r95_102 : Sd gd_mt M95 102 (i_msk [true, true, true, true, true, true, true, true, false, true, true, true] (i_mmax 105)) := sd_msk _ (sd_mmax q477 q478 q106 q479 dX1_span_102 rfl)
theorem r95_105 : Sd gd_mt M95 105 (i_msk [true, true, true, true, true, true, true, true, false, true, true, true] (i_ist 8 107)) := sd_msk _ (sd_istore dX1_span_105 (by decide) rfl)
theorem r95_107 : Sd gd_mt M95 107 (i_ald 11 109) := sd_aload dX1_span_107 rfl
theorem r95_109 : Sd gd_mt M95 109 (i_ild 6 111) := sd_iload dX1_span_109 rfl
theorem r95_111 : Sd gd_mt M95 111 (i_cV 155 1 4 114) := sd_cV2 e155 cal155 q1228 q1059 (rfl : gd_cl 4 = some _) q1060 dX1_span_111 rfl
theorem r95_114 : Sd gd_mt M95 114 (i_msk [true, true, true, true, true, true, true, true, true, true, true, false] (i_ifle 120 117)) := sd_msk _ (sd_ifle dX1_span_114 (by decide) rfl)
theorem r95_117 : Sd gd_mt M95 117 (i_inc 9 1 120) := sd_iinc dX1_span_117 (by decide) (by decide) rfl
theorem r95_120 : Sd gd_mt M95 120 (i_msk [true, true, true, true, true, true, true, true, true, true, true, false] (i_inc 10 1 123)) := sd_msk _ (sd_iinc dX1_span_120 (by decide) (by decide) rfl)
theorem r95_123 : Sd gd_mt M95 123 (i_goto 51) := sd_goto dX1_span_123 (by decide)
theorem r95_126 : Sd gd_mt M95 126 (i_ild 5 128) := sd_iload dX1_span_126 rfl
theorem r95_128 : Sd gd_mt M95 128 (i_ifne 136 131) := sd_ifne dX1_span_128 (by decide) rfl
theorem r95_131 : Sd gd_mt M95 131 (i_ild 7 133) := sd_iload dX1_span_131 rfl
theorem r95_133 : Sd gd_mt M95 133 (i_goto 149) := sd_goto dX1_span_133 (by decide)
theorem r95_136 : Sd gd_mt M95 136 (i_ild 5 138) := sd_iload dX1_span_136 rfl
theorem r95_138 : Sd gd_mt M95 138 (i_psh (.int 1) 139) := sd_iconst dX1_span_138 (by decide) rfl
theorem r95_139 : Sd gd_mt M95 139 (i_icne 147 142) := sd_icne dX1_span_139 (by decide) rfl
theorem r95_142 : Sd gd_mt M95 142 (i_ild 8 144) := sd_iload dX1_span_142 rfl
theorem r95_144 : Sd gd_mt M95 144 (i_goto 149) := sd_goto dX1_span_144 (by decide)
theorem r95_147 : Sd gd_mt M95 147 (i_ild 9 149) := sd_iload dX1_span_147 rfl
theorem r95_149 : Sd gd_mt M95 149 (i_msk [false, false, false, false, false, false, false, false, false, false, false, false] (i_iret)) := sd_msk _ (sd_iret rfl dX1_span_149)
def cl95_1 : List (Nat × gd_I) := [(85, i_ald 11 87), (87, i_cV 158 0 4 90), (90, i_msk [true, true, true, true, true, true, true, false, true, true, true, true] (i_mmin 93)), (93, i_msk [true, true, true, true, true, true, true, false, true, true, true, true] (i_ist 7 95)), (95, i_ild 8 97), (97, i_ald 11 99), (99, i_cV 158 0 4 102), (102, i_msk [true, true, true, true, true, true, true, true, false, true, true, true] (i_mmax 105)), (105, i_msk [true, true, true, true, true, true, true, true, false, true, true, true] (i_ist 8 107)), (107, i_ald 11 109), (109, i_ild 6 111), (111, i_cV 155 1 4 114), (114, i_msk [true, true, true, true, true, true, true, true, true, true, true, false] (i_ifle 120 117)), (117, i_inc 9 1 120), (120, i_msk [true, true, true, true, true, true, true, true, true, true, true, false] (i_inc 10 1 123)), (123, i_goto 51), (126, i_ild 5 128), (128, i_ifne 136 131), (131, i_ild 7 133), (133, i_goto 149), (136, i_ild 5 138), (138, i_psh (.int 1) 139), (139, i_icne 147 142), (142, i_ild 8 144), (144, i_goto 149), (147, i_ild 9 149), (149, i_msk [false, false, false, false, false, false, false, false, false, false, false, false] (i_iret))]
theorem cs95_1 : ∀ q ∈ cl95_1, Sd gd_mt M95 q.1 q.2 := gd_ac r95_85 (gd_ac r95_87 (gd_ac r95_90 (gd_ac r95_93 (gd_ac r95_95 (gd_ac r95_97 (gd_ac r95_99 (gd_ac r95_102 (gd_ac r95_105 (gd_ac r95_107 (gd_ac r95_109 (gd_ac r95_111 (gd_ac r95_114 (gd_ac r95_117 (gd_ac r95_120 (gd_ac r95_123 (gd_ac r95_126 (gd_ac r95_128 (gd_ac r95_131 (gd_ac r95_133 (gd_ac r95_136 (gd_ac r95_138 (gd_ac r95_139 (gd_ac r95_142 (gd_ac r95_144 (gd_ac r95_147 (gd_ac r95_149 (gd_an)))))))))))))))))))))))))))
def cd95 (pc : Nat) : gd_I := if pc < 85 then lkI cl95_0 pc else lkI cl95_1 pc
theorem cg95 : ∀ pc, Sd gd_mt M95 pc (cd95 pc) := by
  intro pc
  unfold cd95
  by_cases h0 : pc < 85
  · rw [if_pos h0]; exact sd_lk cs95_0 pc
  rw [if_neg h0]
  exact sd_lk cs95_1 pc

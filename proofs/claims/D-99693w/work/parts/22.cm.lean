/-! code tables and their rows -/
set_option maxRecDepth 100000
theorem r175_0 : Sd gd_mt M175 0 (i_ald 0 1) := sd_aload_n dX8_thrown_0 rfl rfl
theorem r175_1 : Sd gd_mt M175 1 (i_getI 8 0 4) := sd_getI ck8 (by decide) rfl (.inl q1454) dX8_thrown_1 rfl
theorem r175_4 : Sd gd_mt M175 4 (i_iret) := sd_iret rfl dX8_thrown_4
def cl175_0 : List (Nat × gd_I) := [(0, i_ald 0 1), (1, i_getI 8 0 4), (4, i_iret)]
theorem cs175_0 : ∀ q ∈ cl175_0, Sd gd_mt M175 q.1 q.2 := gd_ac r175_0 (gd_ac r175_1 (gd_ac r175_4 (gd_an)))
def cd175 (pc : Nat) : gd_I := lkI cl175_0 pc
theorem cg175 : ∀ pc, Sd gd_mt M175 pc (cd175 pc) := sd_lk cs175_0
theorem r176_0 : Sd gd_mt M176 0 (i_ald 0 1) := sd_aload_n dX8_init_0 rfl rfl
theorem r176_1 : Sd gd_mt M176 1 (i_oin 4) := sd_oin q1441 gd_oi1 gd_oi2 dX8_init_1 rfl
theorem r176_4 : Sd gd_mt M176 4 (i_msk [true] (i_ald 0 5)) := sd_msk _ (sd_aload_n dX8_init_4 rfl rfl)
theorem r176_5 : Sd gd_mt M176 5 (i_psh (.int 2) 6) := sd_iconst dX8_init_5 (by decide) rfl
theorem r176_6 : Sd gd_mt M176 6 (i_newa 31 8) := sd_newa (t := 31) (at9 := .int) rfl rfl (by decide) (fun G s h => (h.2.2.1 31 _ rfl).2) q201 dX8_init_6 rfl
theorem r176_8 : Sd gd_mt M176 8 (i_putR 8 1 11) := sd_putR ck8 (by decide) rfl (.inl q1455) (.inr ⟨rfl, rfl, rfl⟩) dX8_init_8 rfl
theorem r176_11 : Sd gd_mt M176 11 (i_ald 0 12) := sd_aload_n dX8_init_11 rfl rfl
theorem r176_12 : Sd gd_mt M176 12 (i_psh (.int (-1)) 13) := sd_iconst dX8_init_12 (by decide) rfl
theorem r176_13 : Sd gd_mt M176 13 (i_putI 8 8 16) := sd_putI ck8 (by decide) rfl (.inl q1462) (.inl rfl) dX8_init_13 rfl
theorem r176_16 : Sd gd_mt M176 16 (i_ald 0 17) := sd_aload_n dX8_init_16 rfl rfl
theorem r176_17 : Sd gd_mt M176 17 (i_psh (.int 600) 20) := sd_sipush dX8_init_17 (by decide) rfl
theorem r176_20 : Sd gd_mt M176 20 (i_newa 31 22) := sd_newa (t := 31) (at9 := .int) rfl rfl (by decide) (fun G s h => (h.2.2.1 31 _ rfl).2) q201 dX8_init_20 rfl
theorem r176_22 : Sd gd_mt M176 22 (i_putR 8 9 25) := sd_putR ck8 (by decide) rfl (.inl q1463) (.inr ⟨rfl, rfl, rfl⟩) dX8_init_22 rfl
theorem r176_25 : Sd gd_mt M176 25 (i_ald 0 26) := sd_aload_n dX8_init_25 rfl rfl
theorem r176_26 : Sd gd_mt M176 26 (i_psh (.int 12) 28) := sd_bipush dX8_init_26 (by decide) rfl
theorem r176_28 : Sd gd_mt M176 28 (i_newa 31 30) := sd_newa (t := 31) (at9 := .int) rfl rfl (by decide) (fun G s h => (h.2.2.1 31 _ rfl).2) q201 dX8_init_28 rfl
theorem r176_30 : Sd gd_mt M176 30 (i_putR 8 10 33) := sd_putR ck8 (by decide) rfl (.inl q1464) (.inr ⟨rfl, rfl, rfl⟩) dX8_init_30 rfl
theorem r176_33 : Sd gd_mt M176 33 (i_ald 0 34) := sd_aload_n dX8_init_33 rfl rfl
theorem r176_34 : Sd gd_mt M176 34 (i_psh (.int 14) 36) := sd_bipush dX8_init_34 (by decide) rfl
theorem r176_36 : Sd gd_mt M176 36 (i_newa 31 38) := sd_newa (t := 31) (at9 := .int) rfl rfl (by decide) (fun G s h => (h.2.2.1 31 _ rfl).2) q201 dX8_init_36 rfl
theorem r176_38 : Sd gd_mt M176 38 (i_putR 8 11 41) := sd_putR ck8 (by decide) rfl (.inl q1465) (.inr ⟨rfl, rfl, rfl⟩) dX8_init_38 rfl
theorem r176_41 : Sd gd_mt M176 41 (i_ald 0 42) := sd_aload_n dX8_init_41 rfl rfl
theorem r176_42 : Sd gd_mt M176 42 (i_psh (.int 7) 44) := sd_bipush dX8_init_42 (by decide) rfl
theorem r176_44 : Sd gd_mt M176 44 (i_newa 31 46) := sd_newa (t := 31) (at9 := .int) rfl rfl (by decide) (fun G s h => (h.2.2.1 31 _ rfl).2) q201 dX8_init_44 rfl
theorem r176_46 : Sd gd_mt M176 46 (i_putR 8 12 49) := sd_putR ck8 (by decide) rfl (.inl q1466) (.inr ⟨rfl, rfl, rfl⟩) dX8_init_46 rfl
theorem r176_49 : Sd gd_mt M176 49 (i_ald 0 50) := sd_aload_n dX8_init_49 rfl rfl
theorem r176_50 : Sd gd_mt M176 50 (i_psh (.int 12) 52) := sd_bipush dX8_init_50 (by decide) rfl
theorem r176_52 : Sd gd_mt M176 52 (i_newa 31 54) := sd_newa (t := 31) (at9 := .int) rfl rfl (by decide) (fun G s h => (h.2.2.1 31 _ rfl).2) q201 dX8_init_52 rfl
theorem r176_54 : Sd gd_mt M176 54 (i_putR 8 13 57) := sd_putR ck8 (by decide) rfl (.inl q1467) (.inr ⟨rfl, rfl, rfl⟩) dX8_init_54 rfl
theorem r176_57 : Sd gd_mt M176 57 (i_ald 0 58) := sd_aload_n dX8_init_57 rfl rfl
theorem r176_58 : Sd gd_mt M176 58 (i_psh (.int 12) 60) := sd_bipush dX8_init_58 (by decide) rfl
theorem r176_60 : Sd gd_mt M176 60 (i_newa 31 62) := sd_newa (t := 31) (at9 := .int) rfl rfl (by decide) (fun G s h => (h.2.2.1 31 _ rfl).2) q201 dX8_init_60 rfl
theorem r176_62 : Sd gd_mt M176 62 (i_putR 8 14 65) := sd_putR ck8 (by decide) rfl (.inl q1468) (.inr ⟨rfl, rfl, rfl⟩) dX8_init_62 rfl
theorem r176_65 : Sd gd_mt M176 65 (i_ald 0 66) := sd_aload_n dX8_init_65 rfl rfl
theorem r176_66 : Sd gd_mt M176 66 (i_psh (.int 14) 68) := sd_bipush dX8_init_66 (by decide) rfl
theorem r176_68 : Sd gd_mt M176 68 (i_newa 31 70) := sd_newa (t := 31) (at9 := .int) rfl rfl (by decide) (fun G s h => (h.2.2.1 31 _ rfl).2) q201 dX8_init_68 rfl
theorem r176_70 : Sd gd_mt M176 70 (i_putR 8 15 73) := sd_putR ck8 (by decide) rfl (.inl q1469) (.inr ⟨rfl, rfl, rfl⟩) dX8_init_70 rfl
theorem r176_73 : Sd gd_mt M176 73 (i_ald 0 74) := sd_aload_n dX8_init_73 rfl rfl
theorem r176_74 : Sd gd_mt M176 74 (i_psh (.int 7) 76) := sd_bipush dX8_init_74 (by decide) rfl
theorem r176_76 : Sd gd_mt M176 76 (i_newa 31 78) := sd_newa (t := 31) (at9 := .int) rfl rfl (by decide) (fun G s h => (h.2.2.1 31 _ rfl).2) q201 dX8_init_76 rfl
theorem r176_78 : Sd gd_mt M176 78 (i_putR 8 16 81) := sd_putR ck8 (by decide) rfl (.inl q1470) (.inr ⟨rfl, rfl, rfl⟩) dX8_init_78 rfl
theorem r176_81 : Sd gd_mt M176 81 (i_ald 0 82) := sd_aload_n dX8_init_81 rfl rfl
theorem r176_82 : Sd gd_mt M176 82 (i_psh (.int 12) 84) := sd_bipush dX8_init_82 (by decide) rfl
theorem r176_84 : Sd gd_mt M176 84 (i_newa 31 86) := sd_newa (t := 31) (at9 := .int) rfl rfl (by decide) (fun G s h => (h.2.2.1 31 _ rfl).2) q201 dX8_init_84 rfl
theorem r176_86 : Sd gd_mt M176 86 (i_putR 8 17 89) := sd_putR ck8 (by decide) rfl (.inl q1471) (.inr ⟨rfl, rfl, rfl⟩) dX8_init_86 rfl
theorem r176_89 : Sd gd_mt M176 89 (i_ald 0 90) := sd_aload_n dX8_init_89 rfl rfl
theorem r176_90 : Sd gd_mt M176 90 (i_psh (.int 150) 93) := sd_sipush dX8_init_90 (by decide) rfl
theorem r176_93 : Sd gd_mt M176 93 (i_newa 31 95) := sd_newa (t := 31) (at9 := .int) rfl rfl (by decide) (fun G s h => (h.2.2.1 31 _ rfl).2) q201 dX8_init_93 rfl
def cl176_0 : List (Nat × gd_I) := [(0, i_ald 0 1), (1, i_oin 4), (4, i_msk [true] (i_ald 0 5)), (5, i_psh (.int 2) 6), (6, i_newa 31 8), (8, i_putR 8 1 11), (11, i_ald 0 12), (12, i_psh (.int (-1)) 13), (13, i_putI 8 8 16), (16, i_ald 0 17), (17, i_psh (.int 600) 20), (20, i_newa 31 22), (22, i_putR 8 9 25), (25, i_ald 0 26), (26, i_psh (.int 12) 28), (28, i_newa 31 30), (30, i_putR 8 10 33), (33, i_ald 0 34), (34, i_psh (.int 14) 36), (36, i_newa 31 38), (38, i_putR 8 11 41), (41, i_ald 0 42), (42, i_psh (.int 7) 44), (44, i_newa 31 46), (46, i_putR 8 12 49), (49, i_ald 0 50), (50, i_psh (.int 12) 52), (52, i_newa 31 54), (54, i_putR 8 13 57), (57, i_ald 0 58), (58, i_psh (.int 12) 60), (60, i_newa 31 62), (62, i_putR 8 14 65), (65, i_ald 0 66), (66, i_psh (.int 14) 68), (68, i_newa 31 70), (70, i_putR 8 15 73), (73, i_ald 0 74), (74, i_psh (.int 7) 76), (76, i_newa 31 78), (78, i_putR 8 16 81), (81, i_ald 0 82), (82, i_psh (.int 12) 84), (84, i_newa 31 86), (86, i_putR 8 17 89), (89, i_ald 0 90), (90, i_psh (.int 150) 93), (93, i_newa 31 95)]
theorem cs176_0 : ∀ q ∈ cl176_0, Sd gd_mt M176 q.1 q.2 := gd_ac r176_0 (gd_ac r176_1 (gd_ac r176_4 (gd_ac r176_5 (gd_ac r176_6 (gd_ac r176_8 (gd_ac r176_11 (gd_ac r176_12 (gd_ac r176_13 (gd_ac r176_16 (gd_ac r176_17 (gd_ac r176_20 (gd_ac r176_22 (gd_ac r176_25 (gd_ac r176_26 (gd_ac r176_28 (gd_ac r176_30 (gd_ac r176_33 (gd_ac r176_34 (gd_ac r176_36 (gd_ac r176_38 (gd_ac r176_41 (gd_ac r176_42 (gd_ac r176_44 (gd_ac r176_46 (gd_ac r176_49 (gd_ac r176_50 (gd_ac r176_52 (gd_ac r176_54 (gd_ac r176_57 (gd_ac r176_58 (gd_ac r176_60 (gd_ac r176_62 (gd_ac r176_65 (gd_ac r176_66 (gd_ac r176_68 (gd_ac r176_70 (gd_ac r176_73 (gd_ac r176_74 (gd_ac r176_76 (gd_ac r176_78 (gd_ac r176_81 (gd_ac r176_82 (gd_ac r176_84 (gd_ac r176_86 (gd_ac r176_89 (gd_ac r176_90 (gd_ac r176_93 (gd_an))))))))))))))))))))))))))))))))))))))))))))))))
theorem r176_95 : Sd gd_mt M176 95 (i_putR 8 22 98) := sd_putR ck8 (by decide) rfl (.inl q1476) (.inr ⟨rfl, rfl, rfl⟩) dX8_init_95 rfl
theorem r176_98 : Sd gd_mt M176 98 (i_ald 0 99) := sd_aload_n dX8_init_98 rfl rfl
theorem r176_99 : Sd gd_mt M176 99 (i_psh (.int 150) 102) := sd_sipush dX8_init_99 (by decide) rfl
theorem r176_102 : Sd gd_mt M176 102 (i_newa 31 104) := sd_newa (t := 31) (at9 := .int) rfl rfl (by decide) (fun G s h => (h.2.2.1 31 _ rfl).2) q201 dX8_init_102 rfl
theorem r176_104 : Sd gd_mt M176 104 (i_putR 8 23 107) := sd_putR ck8 (by decide) rfl (.inl q1477) (.inr ⟨rfl, rfl, rfl⟩) dX8_init_104 rfl
theorem r176_107 : Sd gd_mt M176 107 (i_ald 0 108) := sd_aload_n dX8_init_107 rfl rfl
theorem r176_108 : Sd gd_mt M176 108 (i_psh (.int 150) 111) := sd_sipush dX8_init_108 (by decide) rfl
theorem r176_111 : Sd gd_mt M176 111 (i_newa 31 113) := sd_newa (t := 31) (at9 := .int) rfl rfl (by decide) (fun G s h => (h.2.2.1 31 _ rfl).2) q201 dX8_init_111 rfl
theorem r176_113 : Sd gd_mt M176 113 (i_putR 8 24 116) := sd_putR ck8 (by decide) rfl (.inl q1478) (.inr ⟨rfl, rfl, rfl⟩) dX8_init_113 rfl
theorem r176_116 : Sd gd_mt M176 116 (i_ald 0 117) := sd_aload_n dX8_init_116 rfl rfl
theorem r176_117 : Sd gd_mt M176 117 (i_psh (.int 150) 120) := sd_sipush dX8_init_117 (by decide) rfl
theorem r176_120 : Sd gd_mt M176 120 (i_newa 31 122) := sd_newa (t := 31) (at9 := .int) rfl rfl (by decide) (fun G s h => (h.2.2.1 31 _ rfl).2) q201 dX8_init_120 rfl
theorem r176_122 : Sd gd_mt M176 122 (i_putR 8 25 125) := sd_putR ck8 (by decide) rfl (.inl q1479) (.inr ⟨rfl, rfl, rfl⟩) dX8_init_122 rfl
theorem r176_125 : Sd gd_mt M176 125 (i_ald 0 126) := sd_aload_n dX8_init_125 rfl rfl
theorem r176_126 : Sd gd_mt M176 126 (i_psh (.int 150) 129) := sd_sipush dX8_init_126 (by decide) rfl
theorem r176_129 : Sd gd_mt M176 129 (i_newa 31 131) := sd_newa (t := 31) (at9 := .int) rfl rfl (by decide) (fun G s h => (h.2.2.1 31 _ rfl).2) q201 dX8_init_129 rfl
theorem r176_131 : Sd gd_mt M176 131 (i_putR 8 26 134) := sd_putR ck8 (by decide) rfl (.inl q1480) (.inr ⟨rfl, rfl, rfl⟩) dX8_init_131 rfl
theorem r176_134 : Sd gd_mt M176 134 (i_ald 0 135) := sd_aload_n dX8_init_134 rfl rfl
theorem r176_135 : Sd gd_mt M176 135 (i_psh (.int 8) 137) := sd_bipush dX8_init_135 (by decide) rfl
theorem r176_137 : Sd gd_mt M176 137 (i_newa 31 139) := sd_newa (t := 31) (at9 := .int) rfl rfl (by decide) (fun G s h => (h.2.2.1 31 _ rfl).2) q201 dX8_init_137 rfl
theorem r176_139 : Sd gd_mt M176 139 (i_putR 8 29 142) := sd_putR ck8 (by decide) rfl (.inl q1483) (.inr ⟨rfl, rfl, rfl⟩) dX8_init_139 rfl
theorem r176_142 : Sd gd_mt M176 142 (i_ald 0 143) := sd_aload_n dX8_init_142 rfl rfl
theorem r176_143 : Sd gd_mt M176 143 (i_psh (.int 150) 146) := sd_sipush dX8_init_143 (by decide) rfl
theorem r176_146 : Sd gd_mt M176 146 (i_newa 31 148) := sd_newa (t := 31) (at9 := .int) rfl rfl (by decide) (fun G s h => (h.2.2.1 31 _ rfl).2) q201 dX8_init_146 rfl
theorem r176_148 : Sd gd_mt M176 148 (i_putR 8 30 151) := sd_putR ck8 (by decide) rfl (.inl q1484) (.inr ⟨rfl, rfl, rfl⟩) dX8_init_148 rfl
theorem r176_151 : Sd gd_mt M176 151 (i_ald 0 152) := sd_aload_n dX8_init_151 rfl rfl
theorem r176_152 : Sd gd_mt M176 152 (i_psh (.int 150) 155) := sd_sipush dX8_init_152 (by decide) rfl
theorem r176_155 : Sd gd_mt M176 155 (i_newa 31 157) := sd_newa (t := 31) (at9 := .int) rfl rfl (by decide) (fun G s h => (h.2.2.1 31 _ rfl).2) q201 dX8_init_155 rfl
theorem r176_157 : Sd gd_mt M176 157 (i_putR 8 31 160) := sd_putR ck8 (by decide) rfl (.inl q1485) (.inr ⟨rfl, rfl, rfl⟩) dX8_init_157 rfl
theorem r176_160 : Sd gd_mt M176 160 (i_ald 0 161) := sd_aload_n dX8_init_160 rfl rfl
theorem r176_161 : Sd gd_mt M176 161 (i_psh (.int 50) 163) := sd_bipush dX8_init_161 (by decide) rfl
theorem r176_163 : Sd gd_mt M176 163 (i_newa 31 165) := sd_newa (t := 31) (at9 := .int) rfl rfl (by decide) (fun G s h => (h.2.2.1 31 _ rfl).2) q201 dX8_init_163 rfl
theorem r176_165 : Sd gd_mt M176 165 (i_putR 8 38 168) := sd_putR ck8 (by decide) rfl (.inl q1492) (.inr ⟨rfl, rfl, rfl⟩) dX8_init_165 rfl
theorem r176_168 : Sd gd_mt M176 168 (i_ald 0 169) := sd_aload_n dX8_init_168 rfl rfl
theorem r176_169 : Sd gd_mt M176 169 (i_psh (.int 50) 171) := sd_bipush dX8_init_169 (by decide) rfl
theorem r176_171 : Sd gd_mt M176 171 (i_newa 31 173) := sd_newa (t := 31) (at9 := .int) rfl rfl (by decide) (fun G s h => (h.2.2.1 31 _ rfl).2) q201 dX8_init_171 rfl
theorem r176_173 : Sd gd_mt M176 173 (i_putR 8 39 176) := sd_putR ck8 (by decide) rfl (.inl q1493) (.inr ⟨rfl, rfl, rfl⟩) dX8_init_173 rfl
theorem r176_176 : Sd gd_mt M176 176 (i_ald 0 177) := sd_aload_n dX8_init_176 rfl rfl
theorem r176_177 : Sd gd_mt M176 177 (i_psh (.int 800) 180) := sd_sipush dX8_init_177 (by decide) rfl
theorem r176_180 : Sd gd_mt M176 180 (i_newa 31 182) := sd_newa (t := 31) (at9 := .int) rfl rfl (by decide) (fun G s h => (h.2.2.1 31 _ rfl).2) q201 dX8_init_180 rfl
theorem r176_182 : Sd gd_mt M176 182 (i_putR 8 40 185) := sd_putR ck8 (by decide) rfl (.inl q1494) (.inr ⟨rfl, rfl, rfl⟩) dX8_init_182 rfl
theorem r176_185 : Sd gd_mt M176 185 (i_ald 0 186) := sd_aload_n dX8_init_185 rfl rfl
theorem r176_186 : Sd gd_mt M176 186 (i_psh (.int 7) 188) := sd_bipush dX8_init_186 (by decide) rfl
theorem r176_188 : Sd gd_mt M176 188 (i_newa 31 190) := sd_newa (t := 31) (at9 := .int) rfl rfl (by decide) (fun G s h => (h.2.2.1 31 _ rfl).2) q201 dX8_init_188 rfl
theorem r176_190 : Sd gd_mt M176 190 (i_putR 8 41 193) := sd_putR ck8 (by decide) rfl (.inl q1495) (.inr ⟨rfl, rfl, rfl⟩) dX8_init_190 rfl
theorem r176_193 : Sd gd_mt M176 193 (i_ald 0 194) := sd_aload_n dX8_init_193 rfl rfl
theorem r176_194 : Sd gd_mt M176 194 (i_psh (.int (-1)) 195) := sd_iconst dX8_init_194 (by decide) rfl
theorem r176_195 : Sd gd_mt M176 195 (i_putI 8 42 198) := sd_putI ck8 (by decide) rfl (.inl q1496) (.inl rfl) dX8_init_195 rfl
def cl176_1 : List (Nat × gd_I) := [(95, i_putR 8 22 98), (98, i_ald 0 99), (99, i_psh (.int 150) 102), (102, i_newa 31 104), (104, i_putR 8 23 107), (107, i_ald 0 108), (108, i_psh (.int 150) 111), (111, i_newa 31 113), (113, i_putR 8 24 116), (116, i_ald 0 117), (117, i_psh (.int 150) 120), (120, i_newa 31 122), (122, i_putR 8 25 125), (125, i_ald 0 126), (126, i_psh (.int 150) 129), (129, i_newa 31 131), (131, i_putR 8 26 134), (134, i_ald 0 135), (135, i_psh (.int 8) 137), (137, i_newa 31 139), (139, i_putR 8 29 142), (142, i_ald 0 143), (143, i_psh (.int 150) 146), (146, i_newa 31 148), (148, i_putR 8 30 151), (151, i_ald 0 152), (152, i_psh (.int 150) 155), (155, i_newa 31 157), (157, i_putR 8 31 160), (160, i_ald 0 161), (161, i_psh (.int 50) 163), (163, i_newa 31 165), (165, i_putR 8 38 168), (168, i_ald 0 169), (169, i_psh (.int 50) 171), (171, i_newa 31 173), (173, i_putR 8 39 176), (176, i_ald 0 177), (177, i_psh (.int 800) 180), (180, i_newa 31 182), (182, i_putR 8 40 185), (185, i_ald 0 186), (186, i_psh (.int 7) 188), (188, i_newa 31 190), (190, i_putR 8 41 193), (193, i_ald 0 194), (194, i_psh (.int (-1)) 195), (195, i_putI 8 42 198)]
theorem cs176_1 : ∀ q ∈ cl176_1, Sd gd_mt M176 q.1 q.2 := gd_ac r176_95 (gd_ac r176_98 (gd_ac r176_99 (gd_ac r176_102 (gd_ac r176_104 (gd_ac r176_107 (gd_ac r176_108 (gd_ac r176_111 (gd_ac r176_113 (gd_ac r176_116 (gd_ac r176_117 (gd_ac r176_120 (gd_ac r176_122 (gd_ac r176_125 (gd_ac r176_126 (gd_ac r176_129 (gd_ac r176_131 (gd_ac r176_134 (gd_ac r176_135 (gd_ac r176_137 (gd_ac r176_139 (gd_ac r176_142 (gd_ac r176_143 (gd_ac r176_146 (gd_ac r176_148 (gd_ac r176_151 (gd_ac r176_152 (gd_ac r176_155 (gd_ac r176_157 (gd_ac r176_160 (gd_ac r176_161 (gd_ac r176_163 (gd_ac r176_165 (gd_ac r176_168 (gd_ac r176_169 (gd_ac r176_171 (gd_ac r176_173 (gd_ac r176_176 (gd_ac r176_177 (gd_ac r176_180 (gd_ac r176_182 (gd_ac r176_185 (gd_ac r176_186 (gd_ac r176_188 (gd_ac r176_190 (gd_ac r176_193 (gd_ac r176_194 (gd_ac r176_195 (gd_an))))))))))))))))))))))))))))))))))))))))))))))))
theorem r176_198 : Sd gd_mt M176 198 (i_ald 0 199) := sd_aload_n dX8_init_198 rfl rfl
theorem r176_199 : Sd gd_mt M176 199 (i_psh (.int 13) 201) := sd_bipush dX8_init_199 (by decide) rfl
theorem r176_201 : Sd gd_mt M176 201 (i_newa 31 203) := sd_newa (t := 31) (at9 := .int) rfl rfl (by decide) (fun G s h => (h.2.2.1 31 _ rfl).2) q201 dX8_init_201 rfl
theorem r176_203 : Sd gd_mt M176 203 (i_putR 8 43 206) := sd_putR ck8 (by decide) rfl (.inl q1497) (.inr ⟨rfl, rfl, rfl⟩) dX8_init_203 rfl
theorem r176_206 : Sd gd_mt M176 206 (i_ald 0 207) := sd_aload_n dX8_init_206 rfl rfl
theorem r176_207 : Sd gd_mt M176 207 (i_psh (.int 13) 209) := sd_bipush dX8_init_207 (by decide) rfl
theorem r176_209 : Sd gd_mt M176 209 (i_newa 31 211) := sd_newa (t := 31) (at9 := .int) rfl rfl (by decide) (fun G s h => (h.2.2.1 31 _ rfl).2) q201 dX8_init_209 rfl
theorem r176_211 : Sd gd_mt M176 211 (i_putR 8 44 214) := sd_putR ck8 (by decide) rfl (.inl q1498) (.inr ⟨rfl, rfl, rfl⟩) dX8_init_211 rfl
theorem r176_214 : Sd gd_mt M176 214 (i_ald 0 215) := sd_aload_n dX8_init_214 rfl rfl
theorem r176_215 : Sd gd_mt M176 215 (i_psh (.int 256) 218) := sd_sipush dX8_init_215 (by decide) rfl
theorem r176_218 : Sd gd_mt M176 218 (i_newa 31 220) := sd_newa (t := 31) (at9 := .int) rfl rfl (by decide) (fun G s h => (h.2.2.1 31 _ rfl).2) q201 dX8_init_218 rfl
theorem r176_220 : Sd gd_mt M176 220 (i_putR 8 46 223) := sd_putR ck8 (by decide) rfl (.inl q1500) (.inr ⟨rfl, rfl, rfl⟩) dX8_init_220 rfl
theorem r176_223 : Sd gd_mt M176 223 (i_ald 0 224) := sd_aload_n dX8_init_223 rfl rfl
theorem r176_224 : Sd gd_mt M176 224 (i_psh (.int 7) 226) := sd_bipush dX8_init_224 (by decide) rfl
theorem r176_226 : Sd gd_mt M176 226 (i_newa 31 228) := sd_newa (t := 31) (at9 := .int) rfl rfl (by decide) (fun G s h => (h.2.2.1 31 _ rfl).2) q201 dX8_init_226 rfl
theorem r176_228 : Sd gd_mt M176 228 (i_putR 8 47 231) := sd_putR ck8 (by decide) rfl (.inl q1501) (.inr ⟨rfl, rfl, rfl⟩) dX8_init_228 rfl
theorem r176_231 : Sd gd_mt M176 231 (i_ald 0 232) := sd_aload_n dX8_init_231 rfl rfl
theorem r176_232 : Sd gd_mt M176 232 (i_psh (.int 7) 234) := sd_bipush dX8_init_232 (by decide) rfl
theorem r176_234 : Sd gd_mt M176 234 (i_newa 31 236) := sd_newa (t := 31) (at9 := .int) rfl rfl (by decide) (fun G s h => (h.2.2.1 31 _ rfl).2) q201 dX8_init_234 rfl
theorem r176_236 : Sd gd_mt M176 236 (i_putR 8 48 239) := sd_putR ck8 (by decide) rfl (.inl q1502) (.inr ⟨rfl, rfl, rfl⟩) dX8_init_236 rfl
theorem r176_239 : Sd gd_mt M176 239 (i_ald 0 240) := sd_aload_n dX8_init_239 rfl rfl
theorem r176_240 : Sd gd_mt M176 240 (i_psh (.int 1300) 243) := sd_sipush dX8_init_240 (by decide) rfl
theorem r176_243 : Sd gd_mt M176 243 (i_newa 31 245) := sd_newa (t := 31) (at9 := .int) rfl rfl (by decide) (fun G s h => (h.2.2.1 31 _ rfl).2) q201 dX8_init_243 rfl
theorem r176_245 : Sd gd_mt M176 245 (i_putR 8 49 248) := sd_putR ck8 (by decide) rfl (.inl q1503) (.inr ⟨rfl, rfl, rfl⟩) dX8_init_245 rfl
theorem r176_248 : Sd gd_mt M176 248 (i_ald 0 249) := sd_aload_n dX8_init_248 rfl rfl
theorem r176_249 : Sd gd_mt M176 249 (i_psh (.int 100) 251) := sd_bipush dX8_init_249 (by decide) rfl
theorem r176_251 : Sd gd_mt M176 251 (i_newa 33 253) := sd_newa (t := 33) (at9 := .boolean) rfl rfl (by decide) (fun G s h => (h.2.2.1 33 _ rfl).2) q1626 dX8_init_251 rfl
theorem r176_253 : Sd gd_mt M176 253 (i_putR 8 50 256) := sd_putR ck8 (by decide) rfl (.inl q1504) (.inr ⟨rfl, rfl, rfl⟩) dX8_init_253 rfl
theorem r176_256 : Sd gd_mt M176 256 (i_ald 0 257) := sd_aload_n dX8_init_256 rfl rfl
theorem r176_257 : Sd gd_mt M176 257 (i_psh (.int 1000) 260) := sd_sipush dX8_init_257 (by decide) rfl
theorem r176_260 : Sd gd_mt M176 260 (i_newa 31 262) := sd_newa (t := 31) (at9 := .int) rfl rfl (by decide) (fun G s h => (h.2.2.1 31 _ rfl).2) q201 dX8_init_260 rfl
theorem r176_262 : Sd gd_mt M176 262 (i_putR 8 51 265) := sd_putR ck8 (by decide) rfl (.inl q1505) (.inr ⟨rfl, rfl, rfl⟩) dX8_init_262 rfl
theorem r176_265 : Sd gd_mt M176 265 (i_ald 0 266) := sd_aload_n dX8_init_265 rfl rfl
theorem r176_266 : Sd gd_mt M176 266 (i_psh (.int 14) 268) := sd_bipush dX8_init_266 (by decide) rfl
theorem r176_268 : Sd gd_mt M176 268 (i_newa 34 270) := sd_newa (t := 34) (at9 := .long) rfl rfl (by decide) (fun G s h => (h.2.2.1 34 _ rfl).2) q426 dX8_init_268 rfl
theorem r176_270 : Sd gd_mt M176 270 (i_putR 8 52 273) := sd_putR ck8 (by decide) rfl (.inl q1506) (.inr ⟨rfl, rfl, rfl⟩) dX8_init_270 rfl
theorem r176_273 : Sd gd_mt M176 273 (i_ald 0 274) := sd_aload_n dX8_init_273 rfl rfl
theorem r176_274 : Sd gd_mt M176 274 (i_psh (.int 2553) 277) := sd_sipush dX8_init_274 (by decide) rfl
theorem r176_277 : Sd gd_mt M176 277 (i_newa 31 279) := sd_newa (t := 31) (at9 := .int) rfl rfl (by decide) (fun G s h => (h.2.2.1 31 _ rfl).2) q201 dX8_init_277 rfl
theorem r176_279 : Sd gd_mt M176 279 (i_putR 8 55 282) := sd_putR ck8 (by decide) rfl (.inl q1509) (.inr ⟨rfl, rfl, rfl⟩) dX8_init_279 rfl
theorem r176_282 : Sd gd_mt M176 282 (i_ald 0 283) := sd_aload_n dX8_init_282 rfl rfl
theorem r176_283 : Sd gd_mt M176 283 (i_cV 177 0 8 286) := sd_cV2 e177 cal177 q1442 q1444 (rfl : gd_cl 8 = some _) qs27 dX8_init_283 rfl
theorem r176_286 : Sd gd_mt M176 286 (i_msk [true] (i_ald 0 287)) := sd_msk _ (sd_aload_n dX8_init_286 rfl rfl)
theorem r176_287 : Sd gd_mt M176 287 (i_cV 178 0 8 290) := sd_cV2 e178 cal178 q1446 q1448 (rfl : gd_cl 8 = some _) qs28 dX8_init_287 rfl
theorem r176_290 : Sd gd_mt M176 290 (i_msk [false] (i_ret)) := sd_msk _ (sd_ret rfl dX8_init_290)
def cl176_2 : List (Nat × gd_I) := [(198, i_ald 0 199), (199, i_psh (.int 13) 201), (201, i_newa 31 203), (203, i_putR 8 43 206), (206, i_ald 0 207), (207, i_psh (.int 13) 209), (209, i_newa 31 211), (211, i_putR 8 44 214), (214, i_ald 0 215), (215, i_psh (.int 256) 218), (218, i_newa 31 220), (220, i_putR 8 46 223), (223, i_ald 0 224), (224, i_psh (.int 7) 226), (226, i_newa 31 228), (228, i_putR 8 47 231), (231, i_ald 0 232), (232, i_psh (.int 7) 234), (234, i_newa 31 236), (236, i_putR 8 48 239), (239, i_ald 0 240), (240, i_psh (.int 1300) 243), (243, i_newa 31 245), (245, i_putR 8 49 248), (248, i_ald 0 249), (249, i_psh (.int 100) 251), (251, i_newa 33 253), (253, i_putR 8 50 256), (256, i_ald 0 257), (257, i_psh (.int 1000) 260), (260, i_newa 31 262), (262, i_putR 8 51 265), (265, i_ald 0 266), (266, i_psh (.int 14) 268), (268, i_newa 34 270), (270, i_putR 8 52 273), (273, i_ald 0 274), (274, i_psh (.int 2553) 277), (277, i_newa 31 279), (279, i_putR 8 55 282), (282, i_ald 0 283), (283, i_cV 177 0 8 286), (286, i_msk [true] (i_ald 0 287)), (287, i_cV 178 0 8 290), (290, i_msk [false] (i_ret))]
theorem cs176_2 : ∀ q ∈ cl176_2, Sd gd_mt M176 q.1 q.2 := gd_ac r176_198 (gd_ac r176_199 (gd_ac r176_201 (gd_ac r176_203 (gd_ac r176_206 (gd_ac r176_207 (gd_ac r176_209 (gd_ac r176_211 (gd_ac r176_214 (gd_ac r176_215 (gd_ac r176_218 (gd_ac r176_220 (gd_ac r176_223 (gd_ac r176_224 (gd_ac r176_226 (gd_ac r176_228 (gd_ac r176_231 (gd_ac r176_232 (gd_ac r176_234 (gd_ac r176_236 (gd_ac r176_239 (gd_ac r176_240 (gd_ac r176_243 (gd_ac r176_245 (gd_ac r176_248 (gd_ac r176_249 (gd_ac r176_251 (gd_ac r176_253 (gd_ac r176_256 (gd_ac r176_257 (gd_ac r176_260 (gd_ac r176_262 (gd_ac r176_265 (gd_ac r176_266 (gd_ac r176_268 (gd_ac r176_270 (gd_ac r176_273 (gd_ac r176_274 (gd_ac r176_277 (gd_ac r176_279 (gd_ac r176_282 (gd_ac r176_283 (gd_ac r176_286 (gd_ac r176_287 (gd_ac r176_290 (gd_an)))))))))))))))))))))))))))))))))))))))))))))
def cd176 (pc : Nat) : gd_I := if pc < 95 then lkI cl176_0 pc else if pc < 198 then lkI cl176_1 pc else lkI cl176_2 pc
theorem cg176 : ∀ pc, Sd gd_mt M176 pc (cd176 pc) := by
  intro pc
  unfold cd176
  by_cases h0 : pc < 95
  · rw [if_pos h0]; exact sd_lk cs176_0 pc
  rw [if_neg h0]
  by_cases h1 : pc < 198
  · rw [if_pos h1]; exact sd_lk cs176_1 pc
  rw [if_neg h1]
  exact sd_lk cs176_2 pc
theorem r177_0 : Sd gd_mt M177 0 (i_ald 0 1) := sd_aload_n dX8_clears_0 rfl rfl
theorem r177_1 : Sd gd_mt M177 1 (i_psh (.int 0) 2) := sd_iconst dX8_clears_1 (by decide) rfl
theorem r177_2 : Sd gd_mt M177 2 (i_putI 8 18 5) := sd_putI ck8 (by decide) rfl (.inl q1472) (.inl rfl) dX8_clears_2 rfl
theorem r177_5 : Sd gd_mt M177 5 (i_ald 0 6) := sd_aload_n dX8_clears_5 rfl rfl
theorem r177_6 : Sd gd_mt M177 6 (i_psh (.int 0) 7) := sd_iconst dX8_clears_6 (by decide) rfl
theorem r177_7 : Sd gd_mt M177 7 (i_putI 8 19 10) := sd_putI ck8 (by decide) rfl (.inl q1473) (.inl rfl) dX8_clears_7 rfl
theorem r177_10 : Sd gd_mt M177 10 (i_psh (.int 0) 11) := sd_iconst dX8_clears_10 (by decide) rfl
theorem r177_11 : Sd gd_mt M177 11 (i_ist 1 12) := sd_istore_n dX8_clears_11 rfl (by decide) rfl
theorem r177_12 : Sd gd_mt M177 12 (i_msk [true, true] (i_ild 1 13)) := sd_msk _ (sd_iload_n dX8_clears_12 rfl rfl)
theorem r177_13 : Sd gd_mt M177 13 (i_psh (.int 7) 15) := sd_bipush dX8_clears_13 (by decide) rfl
theorem r177_15 : Sd gd_mt M177 15 (i_icge 31 18) := sd_icge dX8_clears_15 (by decide) rfl
theorem r177_18 : Sd gd_mt M177 18 (i_ald 0 19) := sd_aload_n dX8_clears_18 rfl rfl
theorem r177_19 : Sd gd_mt M177 19 (i_getR 8 12 22) := sd_getR ck8 (by decide) rfl (.inl q1466) dX8_clears_19 rfl
theorem r177_22 : Sd gd_mt M177 22 (i_ild 1 23) := sd_iload_n dX8_clears_22 rfl rfl
theorem r177_23 : Sd gd_mt M177 23 (i_psh (.int 0) 24) := sd_iconst dX8_clears_23 (by decide) rfl
theorem r177_24 : Sd gd_mt M177 24 (i_astI 25) := sd_astI dX8_clears_24 rfl
theorem r177_25 : Sd gd_mt M177 25 (i_inc 1 1 28) := sd_iinc dX8_clears_25 (by decide) (by decide) rfl
theorem r177_28 : Sd gd_mt M177 28 (i_goto 12) := sd_goto dX8_clears_28 (by decide)
theorem r177_31 : Sd gd_mt M177 31 (i_psh (.int 0) 32) := sd_iconst dX8_clears_31 (by decide) rfl
theorem r177_32 : Sd gd_mt M177 32 (i_ist 1 33) := sd_istore_n dX8_clears_32 rfl (by decide) rfl
theorem r177_33 : Sd gd_mt M177 33 (i_msk [true, true] (i_ild 1 34)) := sd_msk _ (sd_iload_n dX8_clears_33 rfl rfl)
theorem r177_34 : Sd gd_mt M177 34 (i_psh (.int 12) 36) := sd_bipush dX8_clears_34 (by decide) rfl
theorem r177_36 : Sd gd_mt M177 36 (i_icge 52 39) := sd_icge dX8_clears_36 (by decide) rfl
theorem r177_39 : Sd gd_mt M177 39 (i_ald 0 40) := sd_aload_n dX8_clears_39 rfl rfl
theorem r177_40 : Sd gd_mt M177 40 (i_getR 8 13 43) := sd_getR ck8 (by decide) rfl (.inl q1467) dX8_clears_40 rfl
theorem r177_43 : Sd gd_mt M177 43 (i_ild 1 44) := sd_iload_n dX8_clears_43 rfl rfl
theorem r177_44 : Sd gd_mt M177 44 (i_psh (.int 3) 45) := sd_iconst dX8_clears_44 (by decide) rfl
theorem r177_45 : Sd gd_mt M177 45 (i_astI 46) := sd_astI dX8_clears_45 rfl
theorem r177_46 : Sd gd_mt M177 46 (i_inc 1 1 49) := sd_iinc dX8_clears_46 (by decide) (by decide) rfl
theorem r177_49 : Sd gd_mt M177 49 (i_goto 33) := sd_goto dX8_clears_49 (by decide)
theorem r177_52 : Sd gd_mt M177 52 (i_ret) := sd_ret rfl dX8_clears_52
def cl177_0 : List (Nat × gd_I) := [(0, i_ald 0 1), (1, i_psh (.int 0) 2), (2, i_putI 8 18 5), (5, i_ald 0 6), (6, i_psh (.int 0) 7), (7, i_putI 8 19 10), (10, i_psh (.int 0) 11), (11, i_ist 1 12), (12, i_msk [true, true] (i_ild 1 13)), (13, i_psh (.int 7) 15), (15, i_icge 31 18), (18, i_ald 0 19), (19, i_getR 8 12 22), (22, i_ild 1 23), (23, i_psh (.int 0) 24), (24, i_astI 25), (25, i_inc 1 1 28), (28, i_goto 12), (31, i_psh (.int 0) 32), (32, i_ist 1 33), (33, i_msk [true, true] (i_ild 1 34)), (34, i_psh (.int 12) 36), (36, i_icge 52 39), (39, i_ald 0 40), (40, i_getR 8 13 43), (43, i_ild 1 44), (44, i_psh (.int 3) 45), (45, i_astI 46), (46, i_inc 1 1 49), (49, i_goto 33), (52, i_ret)]
theorem cs177_0 : ∀ q ∈ cl177_0, Sd gd_mt M177 q.1 q.2 := gd_ac r177_0 (gd_ac r177_1 (gd_ac r177_2 (gd_ac r177_5 (gd_ac r177_6 (gd_ac r177_7 (gd_ac r177_10 (gd_ac r177_11 (gd_ac r177_12 (gd_ac r177_13 (gd_ac r177_15 (gd_ac r177_18 (gd_ac r177_19 (gd_ac r177_22 (gd_ac r177_23 (gd_ac r177_24 (gd_ac r177_25 (gd_ac r177_28 (gd_ac r177_31 (gd_ac r177_32 (gd_ac r177_33 (gd_ac r177_34 (gd_ac r177_36 (gd_ac r177_39 (gd_ac r177_40 (gd_ac r177_43 (gd_ac r177_44 (gd_ac r177_45 (gd_ac r177_46 (gd_ac r177_49 (gd_ac r177_52 (gd_an)))))))))))))))))))))))))))))))
def cd177 (pc : Nat) : gd_I := lkI cl177_0 pc
theorem cg177 : ∀ pc, Sd gd_mt M177 pc (cd177 pc) := sd_lk cs177_0
theorem r178_0 : Sd gd_mt M178 0 (i_ald 0 1) := sd_aload_n dX8_sets_0 rfl rfl
theorem r178_1 : Sd gd_mt M178 1 (i_ald 0 2) := sd_aload_n dX8_sets_1 rfl rfl
theorem r178_2 : Sd gd_mt M178 2 (i_getI 8 18 5) := sd_getI ck8 (by decide) rfl (.inl q1472) dX8_sets_2 rfl
theorem r178_5 : Sd gd_mt M178 5 (i_putI 8 20 8) := sd_putI ck8 (by decide) rfl (.inl q1474) (.inl rfl) dX8_sets_5 rfl
theorem r178_8 : Sd gd_mt M178 8 (i_ald 0 9) := sd_aload_n dX8_sets_8 rfl rfl
theorem r178_9 : Sd gd_mt M178 9 (i_ald 0 10) := sd_aload_n dX8_sets_9 rfl rfl
theorem r178_10 : Sd gd_mt M178 10 (i_getI 8 19 13) := sd_getI ck8 (by decide) rfl (.inl q1473) dX8_sets_10 rfl
theorem r178_13 : Sd gd_mt M178 13 (i_putI 8 21 16) := sd_putI ck8 (by decide) rfl (.inl q1475) (.inl rfl) dX8_sets_13 rfl
theorem r178_16 : Sd gd_mt M178 16 (i_ald 0 17) := sd_aload_n dX8_sets_16 rfl rfl
theorem r178_17 : Sd gd_mt M178 17 (i_ald 0 18) := sd_aload_n dX8_sets_17 rfl rfl
theorem r178_18 : Sd gd_mt M178 18 (i_getR 8 10 21) := sd_getR ck8 (by decide) rfl (.inl q1464) dX8_sets_18 rfl
theorem r178_21 : Sd gd_mt M178 21 (i_ald 0 22) := sd_aload_n dX8_sets_21 rfl rfl
theorem r178_22 : Sd gd_mt M178 22 (i_getR 8 14 25) := sd_getR ck8 (by decide) rfl (.inl q1468) dX8_sets_22 rfl
theorem r178_25 : Sd gd_mt M178 25 (i_psh (.int 12) 27) := sd_bipush dX8_sets_25 (by decide) rfl
theorem r178_27 : Sd gd_mt M178 27 (i_cV 179 3 8 30) := sd_cV2 e179 cal179 q1450 q1452 (rfl : gd_cl 8 = some _) qs29 dX8_sets_27 rfl
theorem r178_30 : Sd gd_mt M178 30 (i_msk [true, false] (i_ald 0 31)) := sd_msk _ (sd_aload_n dX8_sets_30 rfl rfl)
theorem r178_31 : Sd gd_mt M178 31 (i_ald 0 32) := sd_aload_n dX8_sets_31 rfl rfl
theorem r178_32 : Sd gd_mt M178 32 (i_getR 8 11 35) := sd_getR ck8 (by decide) rfl (.inl q1465) dX8_sets_32 rfl
theorem r178_35 : Sd gd_mt M178 35 (i_ald 0 36) := sd_aload_n dX8_sets_35 rfl rfl
theorem r178_36 : Sd gd_mt M178 36 (i_getR 8 15 39) := sd_getR ck8 (by decide) rfl (.inl q1469) dX8_sets_36 rfl
theorem r178_39 : Sd gd_mt M178 39 (i_psh (.int 14) 41) := sd_bipush dX8_sets_39 (by decide) rfl
theorem r178_41 : Sd gd_mt M178 41 (i_cV 179 3 8 44) := sd_cV2 e179 cal179 q1450 q1452 (rfl : gd_cl 8 = some _) qs29 dX8_sets_41 rfl
theorem r178_44 : Sd gd_mt M178 44 (i_msk [true, false] (i_ald 0 45)) := sd_msk _ (sd_aload_n dX8_sets_44 rfl rfl)
theorem r178_45 : Sd gd_mt M178 45 (i_ald 0 46) := sd_aload_n dX8_sets_45 rfl rfl
theorem r178_46 : Sd gd_mt M178 46 (i_getR 8 12 49) := sd_getR ck8 (by decide) rfl (.inl q1466) dX8_sets_46 rfl
theorem r178_49 : Sd gd_mt M178 49 (i_ald 0 50) := sd_aload_n dX8_sets_49 rfl rfl
theorem r178_50 : Sd gd_mt M178 50 (i_getR 8 16 53) := sd_getR ck8 (by decide) rfl (.inl q1470) dX8_sets_50 rfl
theorem r178_53 : Sd gd_mt M178 53 (i_psh (.int 7) 55) := sd_bipush dX8_sets_53 (by decide) rfl
theorem r178_55 : Sd gd_mt M178 55 (i_cV 179 3 8 58) := sd_cV2 e179 cal179 q1450 q1452 (rfl : gd_cl 8 = some _) qs29 dX8_sets_55 rfl
theorem r178_58 : Sd gd_mt M178 58 (i_msk [true, false] (i_ald 0 59)) := sd_msk _ (sd_aload_n dX8_sets_58 rfl rfl)
theorem r178_59 : Sd gd_mt M178 59 (i_ald 0 60) := sd_aload_n dX8_sets_59 rfl rfl
theorem r178_60 : Sd gd_mt M178 60 (i_getR 8 13 63) := sd_getR ck8 (by decide) rfl (.inl q1467) dX8_sets_60 rfl
theorem r178_63 : Sd gd_mt M178 63 (i_ald 0 64) := sd_aload_n dX8_sets_63 rfl rfl
theorem r178_64 : Sd gd_mt M178 64 (i_getR 8 17 67) := sd_getR ck8 (by decide) rfl (.inl q1471) dX8_sets_64 rfl
theorem r178_67 : Sd gd_mt M178 67 (i_psh (.int 12) 69) := sd_bipush dX8_sets_67 (by decide) rfl
theorem r178_69 : Sd gd_mt M178 69 (i_cV 179 3 8 72) := sd_cV2 e179 cal179 q1450 q1452 (rfl : gd_cl 8 = some _) qs29 dX8_sets_69 rfl
theorem r178_72 : Sd gd_mt M178 72 (i_msk [true, false] (i_ald 0 73)) := sd_msk _ (sd_aload_n dX8_sets_72 rfl rfl)
theorem r178_73 : Sd gd_mt M178 73 (i_psh (.int 0) 74) := sd_iconst dX8_sets_73 (by decide) rfl
theorem r178_74 : Sd gd_mt M178 74 (i_putI 8 28 77) := sd_putI ck8 (by decide) rfl (.inl q1482) (.inl rfl) dX8_sets_74 rfl
theorem r178_77 : Sd gd_mt M178 77 (i_ald 0 78) := sd_aload_n dX8_sets_77 rfl rfl
theorem r178_78 : Sd gd_mt M178 78 (i_psh (.int 0) 79) := sd_iconst dX8_sets_78 (by decide) rfl
theorem r178_79 : Sd gd_mt M178 79 (i_putI 8 45 82) := sd_putI ck8 (by decide) rfl (.inl q1499) (.inl rfl) dX8_sets_79 rfl
theorem r178_82 : Sd gd_mt M178 82 (i_ald 0 83) := sd_aload_n dX8_sets_82 rfl rfl
theorem r178_83 : Sd gd_mt M178 83 (i_psh (.int 0) 84) := sd_iconst dX8_sets_83 (by decide) rfl
theorem r178_84 : Sd gd_mt M178 84 (i_putI 8 33 87) := sd_putI ck8 (by decide) rfl (.inl q1487) (.inl rfl) dX8_sets_84 rfl
theorem r178_87 : Sd gd_mt M178 87 (i_ald 0 88) := sd_aload_n dX8_sets_87 rfl rfl
theorem r178_88 : Sd gd_mt M178 88 (i_psh (.int 0) 89) := sd_iconst dX8_sets_88 (by decide) rfl
theorem r178_89 : Sd gd_mt M178 89 (i_putI 8 56 92) := sd_putI ck8 (by decide) rfl (.inl q1510) (.inl rfl) dX8_sets_89 rfl
def cl178_0 : List (Nat × gd_I) := [(0, i_ald 0 1), (1, i_ald 0 2), (2, i_getI 8 18 5), (5, i_putI 8 20 8), (8, i_ald 0 9), (9, i_ald 0 10), (10, i_getI 8 19 13), (13, i_putI 8 21 16), (16, i_ald 0 17), (17, i_ald 0 18), (18, i_getR 8 10 21), (21, i_ald 0 22), (22, i_getR 8 14 25), (25, i_psh (.int 12) 27), (27, i_cV 179 3 8 30), (30, i_msk [true, false] (i_ald 0 31)), (31, i_ald 0 32), (32, i_getR 8 11 35), (35, i_ald 0 36), (36, i_getR 8 15 39), (39, i_psh (.int 14) 41), (41, i_cV 179 3 8 44), (44, i_msk [true, false] (i_ald 0 45)), (45, i_ald 0 46), (46, i_getR 8 12 49), (49, i_ald 0 50), (50, i_getR 8 16 53), (53, i_psh (.int 7) 55), (55, i_cV 179 3 8 58), (58, i_msk [true, false] (i_ald 0 59)), (59, i_ald 0 60), (60, i_getR 8 13 63), (63, i_ald 0 64), (64, i_getR 8 17 67), (67, i_psh (.int 12) 69), (69, i_cV 179 3 8 72), (72, i_msk [true, false] (i_ald 0 73)), (73, i_psh (.int 0) 74), (74, i_putI 8 28 77), (77, i_ald 0 78), (78, i_psh (.int 0) 79), (79, i_putI 8 45 82), (82, i_ald 0 83), (83, i_psh (.int 0) 84), (84, i_putI 8 33 87), (87, i_ald 0 88), (88, i_psh (.int 0) 89), (89, i_putI 8 56 92)]
theorem cs178_0 : ∀ q ∈ cl178_0, Sd gd_mt M178 q.1 q.2 := gd_ac r178_0 (gd_ac r178_1 (gd_ac r178_2 (gd_ac r178_5 (gd_ac r178_8 (gd_ac r178_9 (gd_ac r178_10 (gd_ac r178_13 (gd_ac r178_16 (gd_ac r178_17 (gd_ac r178_18 (gd_ac r178_21 (gd_ac r178_22 (gd_ac r178_25 (gd_ac r178_27 (gd_ac r178_30 (gd_ac r178_31 (gd_ac r178_32 (gd_ac r178_35 (gd_ac r178_36 (gd_ac r178_39 (gd_ac r178_41 (gd_ac r178_44 (gd_ac r178_45 (gd_ac r178_46 (gd_ac r178_49 (gd_ac r178_50 (gd_ac r178_53 (gd_ac r178_55 (gd_ac r178_58 (gd_ac r178_59 (gd_ac r178_60 (gd_ac r178_63 (gd_ac r178_64 (gd_ac r178_67 (gd_ac r178_69 (gd_ac r178_72 (gd_ac r178_73 (gd_ac r178_74 (gd_ac r178_77 (gd_ac r178_78 (gd_ac r178_79 (gd_ac r178_82 (gd_ac r178_83 (gd_ac r178_84 (gd_ac r178_87 (gd_ac r178_88 (gd_ac r178_89 (gd_an))))))))))))))))))))))))))))))))))))))))))))))))
theorem r178_92 : Sd gd_mt M178 92 (i_ald 0 93) := sd_aload_n dX8_sets_92 rfl rfl
theorem r178_93 : Sd gd_mt M178 93 (i_psh (.int 0) 94) := sd_iconst dX8_sets_93 (by decide) rfl
theorem r178_94 : Sd gd_mt M178 94 (i_putI 8 34 97) := sd_putI ck8 (by decide) rfl (.inl q1488) (.inl rfl) dX8_sets_94 rfl
theorem r178_97 : Sd gd_mt M178 97 (i_psh (.int 0) 98) := sd_iconst dX8_sets_97 (by decide) rfl
theorem r178_98 : Sd gd_mt M178 98 (i_ist 1 99) := sd_istore_n dX8_sets_98 rfl (by decide) rfl
theorem r178_99 : Sd gd_mt M178 99 (i_msk [true, true] (i_ild 1 100)) := sd_msk _ (sd_iload_n dX8_sets_99 rfl rfl)
theorem r178_100 : Sd gd_mt M178 100 (i_psh (.int 12) 102) := sd_bipush dX8_sets_100 (by decide) rfl
theorem r178_102 : Sd gd_mt M178 102 (i_icgt 118 105) := sd_icgt dX8_sets_102 (by decide) rfl
theorem r178_105 : Sd gd_mt M178 105 (i_ald 0 106) := sd_aload_n dX8_sets_105 rfl rfl
theorem r178_106 : Sd gd_mt M178 106 (i_getR 8 44 109) := sd_getR ck8 (by decide) rfl (.inl q1498) dX8_sets_106 rfl
theorem r178_109 : Sd gd_mt M178 109 (i_ild 1 110) := sd_iload_n dX8_sets_109 rfl rfl
theorem r178_110 : Sd gd_mt M178 110 (i_psh (.int (-1)) 111) := sd_iconst dX8_sets_110 (by decide) rfl
theorem r178_111 : Sd gd_mt M178 111 (i_astI 112) := sd_astI dX8_sets_111 rfl
theorem r178_112 : Sd gd_mt M178 112 (i_inc 1 1 115) := sd_iinc dX8_sets_112 (by decide) (by decide) rfl
theorem r178_115 : Sd gd_mt M178 115 (i_goto 99) := sd_goto dX8_sets_115 (by decide)
theorem r178_118 : Sd gd_mt M178 118 (i_psh (.int 0) 119) := sd_iconst dX8_sets_118 (by decide) rfl
theorem r178_119 : Sd gd_mt M178 119 (i_ist 1 120) := sd_istore_n dX8_sets_119 rfl (by decide) rfl
theorem r178_120 : Sd gd_mt M178 120 (i_msk [true, true] (i_ild 1 121)) := sd_msk _ (sd_iload_n dX8_sets_120 rfl rfl)
theorem r178_121 : Sd gd_mt M178 121 (i_psh (.int 50) 123) := sd_bipush dX8_sets_121 (by decide) rfl
theorem r178_123 : Sd gd_mt M178 123 (i_icge 139 126) := sd_icge dX8_sets_123 (by decide) rfl
theorem r178_126 : Sd gd_mt M178 126 (i_ald 0 127) := sd_aload_n dX8_sets_126 rfl rfl
theorem r178_127 : Sd gd_mt M178 127 (i_getR 8 38 130) := sd_getR ck8 (by decide) rfl (.inl q1492) dX8_sets_127 rfl
theorem r178_130 : Sd gd_mt M178 130 (i_ild 1 131) := sd_iload_n dX8_sets_130 rfl rfl
theorem r178_131 : Sd gd_mt M178 131 (i_psh (.int 0) 132) := sd_iconst dX8_sets_131 (by decide) rfl
theorem r178_132 : Sd gd_mt M178 132 (i_astI 133) := sd_astI dX8_sets_132 rfl
theorem r178_133 : Sd gd_mt M178 133 (i_inc 1 1 136) := sd_iinc dX8_sets_133 (by decide) (by decide) rfl
theorem r178_136 : Sd gd_mt M178 136 (i_goto 120) := sd_goto dX8_sets_136 (by decide)
theorem r178_139 : Sd gd_mt M178 139 (i_psh (.int 0) 140) := sd_iconst dX8_sets_139 (by decide) rfl
theorem r178_140 : Sd gd_mt M178 140 (i_ist 1 141) := sd_istore_n dX8_sets_140 rfl (by decide) rfl
theorem r178_141 : Sd gd_mt M178 141 (i_msk [true, true] (i_ild 1 142)) := sd_msk _ (sd_iload_n dX8_sets_141 rfl rfl)
theorem r178_142 : Sd gd_mt M178 142 (i_psh (.int 7) 144) := sd_bipush dX8_sets_142 (by decide) rfl
theorem r178_144 : Sd gd_mt M178 144 (i_icge 254 147) := sd_icge dX8_sets_144 (by decide) rfl
theorem r178_147 : Sd gd_mt M178 147 (i_ald 0 148) := sd_aload_n dX8_sets_147 rfl rfl
theorem r178_148 : Sd gd_mt M178 148 (i_getR 8 38 151) := sd_getR ck8 (by decide) rfl (.inl q1492) dX8_sets_148 rfl
theorem r178_151 : Sd gd_mt M178 151 (i_psh (.int 14) 153) := sd_bipush dX8_sets_151 (by decide) rfl
theorem r178_153 : Sd gd_mt M178 153 (i_ild 1 154) := sd_iload_n dX8_sets_153 rfl rfl
theorem r178_154 : Sd gd_mt M178 154 (i_iadd 155) := sd_iadd dX8_sets_154 rfl
theorem r178_155 : Sd gd_mt M178 155 (i_psh (.int (-1)) 156) := sd_iconst dX8_sets_155 (by decide) rfl
theorem r178_156 : Sd gd_mt M178 156 (i_astI 157) := sd_astI dX8_sets_156 rfl
theorem r178_157 : Sd gd_mt M178 157 (i_ald 0 158) := sd_aload_n dX8_sets_157 rfl rfl
theorem r178_158 : Sd gd_mt M178 158 (i_getR 8 38 161) := sd_getR ck8 (by decide) rfl (.inl q1492) dX8_sets_158 rfl
theorem r178_161 : Sd gd_mt M178 161 (i_psh (.int 28) 163) := sd_bipush dX8_sets_161 (by decide) rfl
theorem r178_163 : Sd gd_mt M178 163 (i_ild 1 164) := sd_iload_n dX8_sets_163 rfl rfl
theorem r178_164 : Sd gd_mt M178 164 (i_iadd 165) := sd_iadd dX8_sets_164 rfl
theorem r178_165 : Sd gd_mt M178 165 (i_psh (.int (-1)) 166) := sd_iconst dX8_sets_165 (by decide) rfl
theorem r178_166 : Sd gd_mt M178 166 (i_astI 167) := sd_astI dX8_sets_166 rfl
theorem r178_167 : Sd gd_mt M178 167 (i_ald 0 168) := sd_aload_n dX8_sets_167 rfl rfl
theorem r178_168 : Sd gd_mt M178 168 (i_getR 8 38 171) := sd_getR ck8 (by decide) rfl (.inl q1492) dX8_sets_168 rfl
def cl178_1 : List (Nat × gd_I) := [(92, i_ald 0 93), (93, i_psh (.int 0) 94), (94, i_putI 8 34 97), (97, i_psh (.int 0) 98), (98, i_ist 1 99), (99, i_msk [true, true] (i_ild 1 100)), (100, i_psh (.int 12) 102), (102, i_icgt 118 105), (105, i_ald 0 106), (106, i_getR 8 44 109), (109, i_ild 1 110), (110, i_psh (.int (-1)) 111), (111, i_astI 112), (112, i_inc 1 1 115), (115, i_goto 99), (118, i_psh (.int 0) 119), (119, i_ist 1 120), (120, i_msk [true, true] (i_ild 1 121)), (121, i_psh (.int 50) 123), (123, i_icge 139 126), (126, i_ald 0 127), (127, i_getR 8 38 130), (130, i_ild 1 131), (131, i_psh (.int 0) 132), (132, i_astI 133), (133, i_inc 1 1 136), (136, i_goto 120), (139, i_psh (.int 0) 140), (140, i_ist 1 141), (141, i_msk [true, true] (i_ild 1 142)), (142, i_psh (.int 7) 144), (144, i_icge 254 147), (147, i_ald 0 148), (148, i_getR 8 38 151), (151, i_psh (.int 14) 153), (153, i_ild 1 154), (154, i_iadd 155), (155, i_psh (.int (-1)) 156), (156, i_astI 157), (157, i_ald 0 158), (158, i_getR 8 38 161), (161, i_psh (.int 28) 163), (163, i_ild 1 164), (164, i_iadd 165), (165, i_psh (.int (-1)) 166), (166, i_astI 167), (167, i_ald 0 168), (168, i_getR 8 38 171)]
theorem cs178_1 : ∀ q ∈ cl178_1, Sd gd_mt M178 q.1 q.2 := gd_ac r178_92 (gd_ac r178_93 (gd_ac r178_94 (gd_ac r178_97 (gd_ac r178_98 (gd_ac r178_99 (gd_ac r178_100 (gd_ac r178_102 (gd_ac r178_105 (gd_ac r178_106 (gd_ac r178_109 (gd_ac r178_110 (gd_ac r178_111 (gd_ac r178_112 (gd_ac r178_115 (gd_ac r178_118 (gd_ac r178_119 (gd_ac r178_120 (gd_ac r178_121 (gd_ac r178_123 (gd_ac r178_126 (gd_ac r178_127 (gd_ac r178_130 (gd_ac r178_131 (gd_ac r178_132 (gd_ac r178_133 (gd_ac r178_136 (gd_ac r178_139 (gd_ac r178_140 (gd_ac r178_141 (gd_ac r178_142 (gd_ac r178_144 (gd_ac r178_147 (gd_ac r178_148 (gd_ac r178_151 (gd_ac r178_153 (gd_ac r178_154 (gd_ac r178_155 (gd_ac r178_156 (gd_ac r178_157 (gd_ac r178_158 (gd_ac r178_161 (gd_ac r178_163 (gd_ac r178_164 (gd_ac r178_165 (gd_ac r178_166 (gd_ac r178_167 (gd_ac r178_168 (gd_an))))))))))))))))))))))))))))))))))))))))))))))))
theorem r178_171 : Sd gd_mt M178 171 (i_psh (.int 35) 173) := sd_bipush dX8_sets_171 (by decide) rfl
theorem r178_173 : Sd gd_mt M178 173 (i_ild 1 174) := sd_iload_n dX8_sets_173 rfl rfl
theorem r178_174 : Sd gd_mt M178 174 (i_iadd 175) := sd_iadd dX8_sets_174 rfl
theorem r178_175 : Sd gd_mt M178 175 (i_ild 1 176) := sd_iload_n dX8_sets_175 rfl rfl
theorem r178_176 : Sd gd_mt M178 176 (i_ald 0 177) := sd_aload_n dX8_sets_176 rfl rfl
theorem r178_177 : Sd gd_mt M178 177 (i_getI 8 21 180) := sd_getI ck8 (by decide) rfl (.inl q1475) dX8_sets_177 rfl
theorem r178_180 : Sd gd_mt M178 180 (i_icge 187 183) := sd_icge dX8_sets_180 (by decide) rfl
theorem r178_183 : Sd gd_mt M178 183 (i_psh (.int 1) 184) := sd_iconst dX8_sets_183 (by decide) rfl
theorem r178_184 : Sd gd_mt M178 184 (i_goto 188) := sd_goto dX8_sets_184 (by decide)
theorem r178_187 : Sd gd_mt M178 187 (i_psh (.int 0) 188) := sd_iconst dX8_sets_187 (by decide) rfl
theorem r178_188 : Sd gd_mt M178 188 (i_msk [true, true] (i_astI 189)) := sd_msk _ (sd_astI dX8_sets_188 rfl)
theorem r178_189 : Sd gd_mt M178 189 (i_ald 0 190) := sd_aload_n dX8_sets_189 rfl rfl
theorem r178_190 : Sd gd_mt M178 190 (i_getR 8 38 193) := sd_getR ck8 (by decide) rfl (.inl q1492) dX8_sets_190 rfl
theorem r178_193 : Sd gd_mt M178 193 (i_psh (.int 0) 194) := sd_iconst dX8_sets_193 (by decide) rfl
theorem r178_194 : Sd gd_mt M178 194 (i_ild 1 195) := sd_iload_n dX8_sets_194 rfl rfl
theorem r178_195 : Sd gd_mt M178 195 (i_iadd 196) := sd_iadd dX8_sets_195 rfl
theorem r178_196 : Sd gd_mt M178 196 (i_ild 1 197) := sd_iload_n dX8_sets_196 rfl rfl
theorem r178_197 : Sd gd_mt M178 197 (i_ald 0 198) := sd_aload_n dX8_sets_197 rfl rfl
theorem r178_198 : Sd gd_mt M178 198 (i_getI 8 21 201) := sd_getI ck8 (by decide) rfl (.inl q1475) dX8_sets_198 rfl
theorem r178_201 : Sd gd_mt M178 201 (i_icge 215 204) := sd_icge dX8_sets_201 (by decide) rfl
theorem r178_204 : Sd gd_mt M178 204 (i_ald 0 205) := sd_aload_n dX8_sets_204 rfl rfl
theorem r178_205 : Sd gd_mt M178 205 (i_getR 8 15 208) := sd_getR ck8 (by decide) rfl (.inl q1469) dX8_sets_205 rfl
theorem r178_208 : Sd gd_mt M178 208 (i_psh (.int 2) 209) := sd_iconst dX8_sets_208 (by decide) rfl
theorem r178_209 : Sd gd_mt M178 209 (i_ild 1 210) := sd_iload_n dX8_sets_209 rfl rfl
theorem r178_210 : Sd gd_mt M178 210 (i_imul 211) := sd_imul dX8_sets_210 rfl
theorem r178_211 : Sd gd_mt M178 211 (i_aldI 31 212) := sd_iald dX8_sets_211 rfl
theorem r178_212 : Sd gd_mt M178 212 (i_goto 216) := sd_goto dX8_sets_212 (by decide)
theorem r178_215 : Sd gd_mt M178 215 (i_psh (.int 0) 216) := sd_iconst dX8_sets_215 (by decide) rfl
theorem r178_216 : Sd gd_mt M178 216 (i_msk [true, true] (i_astI 217)) := sd_msk _ (sd_astI dX8_sets_216 rfl)
theorem r178_217 : Sd gd_mt M178 217 (i_ald 0 218) := sd_aload_n dX8_sets_217 rfl rfl
theorem r178_218 : Sd gd_mt M178 218 (i_getR 8 38 221) := sd_getR ck8 (by decide) rfl (.inl q1492) dX8_sets_218 rfl
theorem r178_221 : Sd gd_mt M178 221 (i_psh (.int 7) 223) := sd_bipush dX8_sets_221 (by decide) rfl
theorem r178_223 : Sd gd_mt M178 223 (i_ild 1 224) := sd_iload_n dX8_sets_223 rfl rfl
theorem r178_224 : Sd gd_mt M178 224 (i_iadd 225) := sd_iadd dX8_sets_224 rfl
theorem r178_225 : Sd gd_mt M178 225 (i_ild 1 226) := sd_iload_n dX8_sets_225 rfl rfl
theorem r178_226 : Sd gd_mt M178 226 (i_ald 0 227) := sd_aload_n dX8_sets_226 rfl rfl
theorem r178_227 : Sd gd_mt M178 227 (i_getI 8 21 230) := sd_getI ck8 (by decide) rfl (.inl q1475) dX8_sets_227 rfl
theorem r178_230 : Sd gd_mt M178 230 (i_icge 246 233) := sd_icge dX8_sets_230 (by decide) rfl
theorem r178_233 : Sd gd_mt M178 233 (i_ald 0 234) := sd_aload_n dX8_sets_233 rfl rfl
theorem r178_234 : Sd gd_mt M178 234 (i_getR 8 15 237) := sd_getR ck8 (by decide) rfl (.inl q1469) dX8_sets_234 rfl
theorem r178_237 : Sd gd_mt M178 237 (i_psh (.int 2) 238) := sd_iconst dX8_sets_237 (by decide) rfl
theorem r178_238 : Sd gd_mt M178 238 (i_ild 1 239) := sd_iload_n dX8_sets_238 rfl rfl
theorem r178_239 : Sd gd_mt M178 239 (i_imul 240) := sd_imul dX8_sets_239 rfl
theorem r178_240 : Sd gd_mt M178 240 (i_psh (.int 1) 241) := sd_iconst dX8_sets_240 (by decide) rfl
theorem r178_241 : Sd gd_mt M178 241 (i_iadd 242) := sd_iadd dX8_sets_241 rfl
theorem r178_242 : Sd gd_mt M178 242 (i_aldI 31 243) := sd_iald dX8_sets_242 rfl
theorem r178_243 : Sd gd_mt M178 243 (i_goto 247) := sd_goto dX8_sets_243 (by decide)
theorem r178_246 : Sd gd_mt M178 246 (i_psh (.int 0) 247) := sd_iconst dX8_sets_246 (by decide) rfl
def cl178_2 : List (Nat × gd_I) := [(171, i_psh (.int 35) 173), (173, i_ild 1 174), (174, i_iadd 175), (175, i_ild 1 176), (176, i_ald 0 177), (177, i_getI 8 21 180), (180, i_icge 187 183), (183, i_psh (.int 1) 184), (184, i_goto 188), (187, i_psh (.int 0) 188), (188, i_msk [true, true] (i_astI 189)), (189, i_ald 0 190), (190, i_getR 8 38 193), (193, i_psh (.int 0) 194), (194, i_ild 1 195), (195, i_iadd 196), (196, i_ild 1 197), (197, i_ald 0 198), (198, i_getI 8 21 201), (201, i_icge 215 204), (204, i_ald 0 205), (205, i_getR 8 15 208), (208, i_psh (.int 2) 209), (209, i_ild 1 210), (210, i_imul 211), (211, i_aldI 31 212), (212, i_goto 216), (215, i_psh (.int 0) 216), (216, i_msk [true, true] (i_astI 217)), (217, i_ald 0 218), (218, i_getR 8 38 221), (221, i_psh (.int 7) 223), (223, i_ild 1 224), (224, i_iadd 225), (225, i_ild 1 226), (226, i_ald 0 227), (227, i_getI 8 21 230), (230, i_icge 246 233), (233, i_ald 0 234), (234, i_getR 8 15 237), (237, i_psh (.int 2) 238), (238, i_ild 1 239), (239, i_imul 240), (240, i_psh (.int 1) 241), (241, i_iadd 242), (242, i_aldI 31 243), (243, i_goto 247), (246, i_psh (.int 0) 247)]
theorem cs178_2 : ∀ q ∈ cl178_2, Sd gd_mt M178 q.1 q.2 := gd_ac r178_171 (gd_ac r178_173 (gd_ac r178_174 (gd_ac r178_175 (gd_ac r178_176 (gd_ac r178_177 (gd_ac r178_180 (gd_ac r178_183 (gd_ac r178_184 (gd_ac r178_187 (gd_ac r178_188 (gd_ac r178_189 (gd_ac r178_190 (gd_ac r178_193 (gd_ac r178_194 (gd_ac r178_195 (gd_ac r178_196 (gd_ac r178_197 (gd_ac r178_198 (gd_ac r178_201 (gd_ac r178_204 (gd_ac r178_205 (gd_ac r178_208 (gd_ac r178_209 (gd_ac r178_210 (gd_ac r178_211 (gd_ac r178_212 (gd_ac r178_215 (gd_ac r178_216 (gd_ac r178_217 (gd_ac r178_218 (gd_ac r178_221 (gd_ac r178_223 (gd_ac r178_224 (gd_ac r178_225 (gd_ac r178_226 (gd_ac r178_227 (gd_ac r178_230 (gd_ac r178_233 (gd_ac r178_234 (gd_ac r178_237 (gd_ac r178_238 (gd_ac r178_239 (gd_ac r178_240 (gd_ac r178_241 (gd_ac r178_242 (gd_ac r178_243 (gd_ac r178_246 (gd_an))))))))))))))))))))))))))))))))))))))))))))))))
theorem r178_247 : Sd gd_mt M178 247 (i_msk [true, true] (i_astI 248)) := sd_msk _ (sd_astI dX8_sets_247 rfl)
theorem r178_248 : Sd gd_mt M178 248 (i_inc 1 1 251) := sd_iinc dX8_sets_248 (by decide) (by decide) rfl
theorem r178_251 : Sd gd_mt M178 251 (i_goto 141) := sd_goto dX8_sets_251 (by decide)
theorem r178_254 : Sd gd_mt M178 254 (i_psh (.int 0) 255) := sd_iconst dX8_sets_254 (by decide) rfl
theorem r178_255 : Sd gd_mt M178 255 (i_ist 1 256) := sd_istore_n dX8_sets_255 rfl (by decide) rfl
theorem r178_256 : Sd gd_mt M178 256 (i_msk [true, true] (i_ild 1 257)) := sd_msk _ (sd_iload_n dX8_sets_256 rfl rfl)
theorem r178_257 : Sd gd_mt M178 257 (i_ald 0 258) := sd_aload_n dX8_sets_257 rfl rfl
theorem r178_258 : Sd gd_mt M178 258 (i_getI 8 20 261) := sd_getI ck8 (by decide) rfl (.inl q1474) dX8_sets_258 rfl
theorem r178_261 : Sd gd_mt M178 261 (i_icge 287 264) := sd_icge dX8_sets_261 (by decide) rfl
theorem r178_264 : Sd gd_mt M178 264 (i_ald 0 265) := sd_aload_n dX8_sets_264 rfl rfl
theorem r178_265 : Sd gd_mt M178 265 (i_getR 8 38 268) := sd_getR ck8 (by decide) rfl (.inl q1492) dX8_sets_265 rfl
theorem r178_268 : Sd gd_mt M178 268 (i_psh (.int 42) 270) := sd_bipush dX8_sets_268 (by decide) rfl
theorem r178_270 : Sd gd_mt M178 270 (i_ild 1 271) := sd_iload_n dX8_sets_270 rfl rfl
theorem r178_271 : Sd gd_mt M178 271 (i_iadd 272) := sd_iadd dX8_sets_271 rfl
theorem r178_272 : Sd gd_mt M178 272 (i_ald 0 273) := sd_aload_n dX8_sets_272 rfl rfl
theorem r178_273 : Sd gd_mt M178 273 (i_getR 8 14 276) := sd_getR ck8 (by decide) rfl (.inl q1468) dX8_sets_273 rfl
theorem r178_276 : Sd gd_mt M178 276 (i_psh (.int 2) 277) := sd_iconst dX8_sets_276 (by decide) rfl
theorem r178_277 : Sd gd_mt M178 277 (i_ild 1 278) := sd_iload_n dX8_sets_277 rfl rfl
theorem r178_278 : Sd gd_mt M178 278 (i_imul 279) := sd_imul dX8_sets_278 rfl
theorem r178_279 : Sd gd_mt M178 279 (i_aldI 31 280) := sd_iald dX8_sets_279 rfl
theorem r178_280 : Sd gd_mt M178 280 (i_astI 281) := sd_astI dX8_sets_280 rfl
theorem r178_281 : Sd gd_mt M178 281 (i_inc 1 1 284) := sd_iinc dX8_sets_281 (by decide) (by decide) rfl
theorem r178_284 : Sd gd_mt M178 284 (i_goto 256) := sd_goto dX8_sets_284 (by decide)
theorem r178_287 : Sd gd_mt M178 287 (i_ret) := sd_ret rfl dX8_sets_287
def cl178_3 : List (Nat × gd_I) := [(247, i_msk [true, true] (i_astI 248)), (248, i_inc 1 1 251), (251, i_goto 141), (254, i_psh (.int 0) 255), (255, i_ist 1 256), (256, i_msk [true, true] (i_ild 1 257)), (257, i_ald 0 258), (258, i_getI 8 20 261), (261, i_icge 287 264), (264, i_ald 0 265), (265, i_getR 8 38 268), (268, i_psh (.int 42) 270), (270, i_ild 1 271), (271, i_iadd 272), (272, i_ald 0 273), (273, i_getR 8 14 276), (276, i_psh (.int 2) 277), (277, i_ild 1 278), (278, i_imul 279), (279, i_aldI 31 280), (280, i_astI 281), (281, i_inc 1 1 284), (284, i_goto 256), (287, i_ret)]
theorem cs178_3 : ∀ q ∈ cl178_3, Sd gd_mt M178 q.1 q.2 := gd_ac r178_247 (gd_ac r178_248 (gd_ac r178_251 (gd_ac r178_254 (gd_ac r178_255 (gd_ac r178_256 (gd_ac r178_257 (gd_ac r178_258 (gd_ac r178_261 (gd_ac r178_264 (gd_ac r178_265 (gd_ac r178_268 (gd_ac r178_270 (gd_ac r178_271 (gd_ac r178_272 (gd_ac r178_273 (gd_ac r178_276 (gd_ac r178_277 (gd_ac r178_278 (gd_ac r178_279 (gd_ac r178_280 (gd_ac r178_281 (gd_ac r178_284 (gd_ac r178_287 (gd_an))))))))))))))))))))))))
def cd178 (pc : Nat) : gd_I := if pc < 92 then lkI cl178_0 pc else if pc < 171 then lkI cl178_1 pc else if pc < 247 then lkI cl178_2 pc else lkI cl178_3 pc
theorem cg178 : ∀ pc, Sd gd_mt M178 pc (cd178 pc) := by
  intro pc
  unfold cd178
  by_cases h0 : pc < 92
  · rw [if_pos h0]; exact sd_lk cs178_0 pc
  rw [if_neg h0]
  by_cases h1 : pc < 171
  · rw [if_pos h1]; exact sd_lk cs178_1 pc
  rw [if_neg h1]
  by_cases h2 : pc < 247
  · rw [if_pos h2]; exact sd_lk cs178_2 pc
  rw [if_neg h2]
  exact sd_lk cs178_3 pc
theorem r179_0 : Sd gd_mt M179 0 (i_psh (.int 0) 1) := sd_iconst dX8_copies_0 (by decide) rfl
theorem r179_1 : Sd gd_mt M179 1 (i_ist 4 3) := sd_istore dX8_copies_1 (by decide) rfl
theorem r179_3 : Sd gd_mt M179 3 (i_msk [false, true, true, true, true] (i_ild 4 5)) := sd_msk _ (sd_iload dX8_copies_3 rfl)
theorem r179_5 : Sd gd_mt M179 5 (i_ild 3 6) := sd_iload_n dX8_copies_5 rfl rfl
theorem r179_6 : Sd gd_mt M179 6 (i_icge 23 9) := sd_icge dX8_copies_6 (by decide) rfl
theorem r179_9 : Sd gd_mt M179 9 (i_ald 2 10) := sd_aload_n dX8_copies_9 rfl rfl
theorem r179_10 : Sd gd_mt M179 10 (i_ild 4 12) := sd_iload dX8_copies_10 rfl
theorem r179_12 : Sd gd_mt M179 12 (i_ald 1 13) := sd_aload_n dX8_copies_12 rfl rfl
theorem r179_13 : Sd gd_mt M179 13 (i_ild 4 15) := sd_iload dX8_copies_13 rfl
theorem r179_15 : Sd gd_mt M179 15 (i_aldI 31 16) := sd_iald dX8_copies_15 rfl
theorem r179_16 : Sd gd_mt M179 16 (i_astI 17) := sd_astI dX8_copies_16 rfl
theorem r179_17 : Sd gd_mt M179 17 (i_inc 4 1 20) := sd_iinc dX8_copies_17 (by decide) (by decide) rfl
theorem r179_20 : Sd gd_mt M179 20 (i_goto 3) := sd_goto dX8_copies_20 (by decide)
theorem r179_23 : Sd gd_mt M179 23 (i_ret) := sd_ret rfl dX8_copies_23
def cl179_0 : List (Nat × gd_I) := [(0, i_psh (.int 0) 1), (1, i_ist 4 3), (3, i_msk [false, true, true, true, true] (i_ild 4 5)), (5, i_ild 3 6), (6, i_icge 23 9), (9, i_ald 2 10), (10, i_ild 4 12), (12, i_ald 1 13), (13, i_ild 4 15), (15, i_aldI 31 16), (16, i_astI 17), (17, i_inc 4 1 20), (20, i_goto 3), (23, i_ret)]
theorem cs179_0 : ∀ q ∈ cl179_0, Sd gd_mt M179 q.1 q.2 := gd_ac r179_0 (gd_ac r179_1 (gd_ac r179_3 (gd_ac r179_5 (gd_ac r179_6 (gd_ac r179_9 (gd_ac r179_10 (gd_ac r179_12 (gd_ac r179_13 (gd_ac r179_15 (gd_ac r179_16 (gd_ac r179_17 (gd_ac r179_20 (gd_ac r179_23 (gd_an))))))))))))))
def cd179 (pc : Nat) : gd_I := lkI cl179_0 pc
theorem cg179 : ∀ pc, Sd gd_mt M179 pc (cd179 pc) := sd_lk cs179_0
theorem r180_0 : Sd gd_mt M180 0 (i_ald 0 1) := sd_aload_n dX8_feed_0 rfl rfl
theorem r180_1 : Sd gd_mt M180 1 (i_psh (.int 0) 2) := sd_iconst dX8_feed_1 (by decide) rfl
theorem r180_2 : Sd gd_mt M180 2 (i_putI 8 0 5) := sd_putI ck8 (by decide) rfl (.inl q1454) (.inl rfl) dX8_feed_2 rfl
theorem r180_5 : Sd gd_mt M180 5 (i_ald 0 6) := sd_aload_n dX8_feed_5 rfl rfl
theorem r180_6 : Sd gd_mt M180 6 (i_getI 8 2 9) := sd_getI ck8 (by decide) rfl (.inl q1456) dX8_feed_6 rfl
theorem r180_9 : Sd gd_mt M180 9 (i_psh (.int 20) 11) := sd_bipush dX8_feed_9 (by decide) rfl
theorem r180_11 : Sd gd_mt M180 11 (i_iadd 12) := sd_iadd dX8_feed_11 rfl
theorem r180_12 : Sd gd_mt M180 12 (i_psh (.int 600) 15) := sd_sipush dX8_feed_12 (by decide) rfl
theorem r180_15 : Sd gd_mt M180 15 (i_icle 20 18) := sd_icle dX8_feed_15 (by decide) rfl
theorem r180_18 : Sd gd_mt M180 18 (i_psh (.int (-1)) 19) := sd_iconst dX8_feed_18 (by decide) rfl
theorem r180_19 : Sd gd_mt M180 19 (i_iret) := sd_iret rfl dX8_feed_19
theorem r180_20 : Sd gd_mt M180 20 (i_psh (.int 0) 21) := sd_iconst dX8_feed_20 (by decide) rfl
theorem r180_21 : Sd gd_mt M180 21 (i_ist 6 23) := sd_istore dX8_feed_21 (by decide) rfl
theorem r180_23 : Sd gd_mt M180 23 (i_msk [true, true, true, true, true, true, true, false] (i_ild 6 25)) := sd_msk _ (sd_iload dX8_feed_23 rfl)
theorem r180_25 : Sd gd_mt M180 25 (i_psh (.int 20) 27) := sd_bipush dX8_feed_25 (by decide) rfl
theorem r180_27 : Sd gd_mt M180 27 (i_icge 120 30) := sd_icge dX8_feed_27 (by decide) rfl
theorem r180_30 : Sd gd_mt M180 30 (i_ild 6 32) := sd_iload dX8_feed_30 rfl
theorem r180_32 : Sd gd_mt M180 32 (i_psh (.int 4) 33) := sd_iconst dX8_feed_32 (by decide) rfl
theorem r180_33 : Sd gd_mt M180 33 (i_icge 40 36) := sd_icge dX8_feed_33 (by decide) rfl
theorem r180_36 : Sd gd_mt M180 36 (i_ild 1 37) := sd_iload_n dX8_feed_36 rfl rfl
theorem r180_37 : Sd gd_mt M180 37 (i_goto 76) := sd_goto dX8_feed_37 (by decide)
theorem r180_40 : Sd gd_mt M180 40 (i_ild 6 42) := sd_iload dX8_feed_40 rfl
theorem r180_42 : Sd gd_mt M180 42 (i_psh (.int 8) 44) := sd_bipush dX8_feed_42 (by decide) rfl
theorem r180_44 : Sd gd_mt M180 44 (i_icge 51 47) := sd_icge dX8_feed_44 (by decide) rfl
theorem r180_47 : Sd gd_mt M180 47 (i_ild 2 48) := sd_iload_n dX8_feed_47 rfl rfl
theorem r180_48 : Sd gd_mt M180 48 (i_goto 76) := sd_goto dX8_feed_48 (by decide)
theorem r180_51 : Sd gd_mt M180 51 (i_ild 6 53) := sd_iload dX8_feed_51 rfl
theorem r180_53 : Sd gd_mt M180 53 (i_psh (.int 12) 55) := sd_bipush dX8_feed_53 (by decide) rfl
theorem r180_55 : Sd gd_mt M180 55 (i_icge 62 58) := sd_icge dX8_feed_55 (by decide) rfl
theorem r180_58 : Sd gd_mt M180 58 (i_ild 3 59) := sd_iload_n dX8_feed_58 rfl rfl
theorem r180_59 : Sd gd_mt M180 59 (i_goto 76) := sd_goto dX8_feed_59 (by decide)
theorem r180_62 : Sd gd_mt M180 62 (i_ild 6 64) := sd_iload dX8_feed_62 rfl
theorem r180_64 : Sd gd_mt M180 64 (i_psh (.int 16) 66) := sd_bipush dX8_feed_64 (by decide) rfl
theorem r180_66 : Sd gd_mt M180 66 (i_icge 74 69) := sd_icge dX8_feed_66 (by decide) rfl
theorem r180_69 : Sd gd_mt M180 69 (i_ild 4 71) := sd_iload dX8_feed_69 rfl
theorem r180_71 : Sd gd_mt M180 71 (i_goto 76) := sd_goto dX8_feed_71 (by decide)
theorem r180_74 : Sd gd_mt M180 74 (i_ild 5 76) := sd_iload dX8_feed_74 rfl
theorem r180_76 : Sd gd_mt M180 76 (i_msk [true, true, true, true, true, true, true, false] (i_ist 7 78)) := sd_msk _ (sd_istore dX8_feed_76 (by decide) rfl)
theorem r180_78 : Sd gd_mt M180 78 (i_ald 0 79) := sd_aload_n dX8_feed_78 rfl rfl
theorem r180_79 : Sd gd_mt M180 79 (i_getR 8 9 82) := sd_getR ck8 (by decide) rfl (.inl q1463) dX8_feed_79 rfl
theorem r180_82 : Sd gd_mt M180 82 (i_ald 0 83) := sd_aload_n dX8_feed_82 rfl rfl
theorem r180_83 : Sd gd_mt M180 83 (i_getI 8 2 86) := sd_getI ck8 (by decide) rfl (.inl q1456) dX8_feed_83 rfl
theorem r180_86 : Sd gd_mt M180 86 (i_ild 7 88) := sd_iload dX8_feed_86 rfl
theorem r180_88 : Sd gd_mt M180 88 (i_psh (.int 24) 90) := sd_bipush dX8_feed_88 (by decide) rfl
theorem r180_90 : Sd gd_mt M180 90 (i_psh (.int 8) 92) := sd_bipush dX8_feed_90 (by decide) rfl
theorem r180_92 : Sd gd_mt M180 92 (i_ild 6 94) := sd_iload dX8_feed_92 rfl
theorem r180_94 : Sd gd_mt M180 94 (i_psh (.int 4) 95) := sd_iconst dX8_feed_94 (by decide) rfl
theorem r180_95 : Sd gd_mt M180 95 (i_irem 96) := sd_irem dX8_feed_95 rfl
def cl180_0 : List (Nat × gd_I) := [(0, i_ald 0 1), (1, i_psh (.int 0) 2), (2, i_putI 8 0 5), (5, i_ald 0 6), (6, i_getI 8 2 9), (9, i_psh (.int 20) 11), (11, i_iadd 12), (12, i_psh (.int 600) 15), (15, i_icle 20 18), (18, i_psh (.int (-1)) 19), (19, i_iret), (20, i_psh (.int 0) 21), (21, i_ist 6 23), (23, i_msk [true, true, true, true, true, true, true, false] (i_ild 6 25)), (25, i_psh (.int 20) 27), (27, i_icge 120 30), (30, i_ild 6 32), (32, i_psh (.int 4) 33), (33, i_icge 40 36), (36, i_ild 1 37), (37, i_goto 76), (40, i_ild 6 42), (42, i_psh (.int 8) 44), (44, i_icge 51 47), (47, i_ild 2 48), (48, i_goto 76), (51, i_ild 6 53), (53, i_psh (.int 12) 55), (55, i_icge 62 58), (58, i_ild 3 59), (59, i_goto 76), (62, i_ild 6 64), (64, i_psh (.int 16) 66), (66, i_icge 74 69), (69, i_ild 4 71), (71, i_goto 76), (74, i_ild 5 76), (76, i_msk [true, true, true, true, true, true, true, false] (i_ist 7 78)), (78, i_ald 0 79), (79, i_getR 8 9 82), (82, i_ald 0 83), (83, i_getI 8 2 86), (86, i_ild 7 88), (88, i_psh (.int 24) 90), (90, i_psh (.int 8) 92), (92, i_ild 6 94), (94, i_psh (.int 4) 95), (95, i_irem 96)]
theorem cs180_0 : ∀ q ∈ cl180_0, Sd gd_mt M180 q.1 q.2 := gd_ac r180_0 (gd_ac r180_1 (gd_ac r180_2 (gd_ac r180_5 (gd_ac r180_6 (gd_ac r180_9 (gd_ac r180_11 (gd_ac r180_12 (gd_ac r180_15 (gd_ac r180_18 (gd_ac r180_19 (gd_ac r180_20 (gd_ac r180_21 (gd_ac r180_23 (gd_ac r180_25 (gd_ac r180_27 (gd_ac r180_30 (gd_ac r180_32 (gd_ac r180_33 (gd_ac r180_36 (gd_ac r180_37 (gd_ac r180_40 (gd_ac r180_42 (gd_ac r180_44 (gd_ac r180_47 (gd_ac r180_48 (gd_ac r180_51 (gd_ac r180_53 (gd_ac r180_55 (gd_ac r180_58 (gd_ac r180_59 (gd_ac r180_62 (gd_ac r180_64 (gd_ac r180_66 (gd_ac r180_69 (gd_ac r180_71 (gd_ac r180_74 (gd_ac r180_76 (gd_ac r180_78 (gd_ac r180_79 (gd_ac r180_82 (gd_ac r180_83 (gd_ac r180_86 (gd_ac r180_88 (gd_ac r180_90 (gd_ac r180_92 (gd_ac r180_94 (gd_ac r180_95 (gd_an))))))))))))))))))))))))))))))))))))))))))))))))
theorem r180_96 : Sd gd_mt M180 96 (i_imul 97) := sd_imul dX8_feed_96 rfl
theorem r180_97 : Sd gd_mt M180 97 (i_isub 98) := sd_isub dX8_feed_97 rfl
theorem r180_98 : Sd gd_mt M180 98 (i_ishr 99) := sd_ishr dX8_feed_98 rfl
theorem r180_99 : Sd gd_mt M180 99 (i_psh (.int 255) 102) := sd_sipush dX8_feed_99 (by decide) rfl
theorem r180_102 : Sd gd_mt M180 102 (i_iand 103) := sd_iand dX8_feed_102 rfl
theorem r180_103 : Sd gd_mt M180 103 (i_astI 104) := sd_astI dX8_feed_103 rfl
theorem r180_104 : Sd gd_mt M180 104 (i_ald 0 105) := sd_aload_n dX8_feed_104 rfl rfl
theorem r180_105 : Sd gd_mt M180 105 (i_dup 106) := sd_dup dX8_feed_105 rfl
theorem r180_106 : Sd gd_mt M180 106 (i_getI 8 2 109) := sd_getI ck8 (by decide) rfl (.inl q1456) dX8_feed_106 rfl
theorem r180_109 : Sd gd_mt M180 109 (i_psh (.int 1) 110) := sd_iconst dX8_feed_109 (by decide) rfl
theorem r180_110 : Sd gd_mt M180 110 (i_iadd 111) := sd_iadd dX8_feed_110 rfl
theorem r180_111 : Sd gd_mt M180 111 (i_putI 8 2 114) := sd_putI ck8 (by decide) rfl (.inl q1456) (.inl rfl) dX8_feed_111 rfl
theorem r180_114 : Sd gd_mt M180 114 (i_inc 6 1 117) := sd_iinc dX8_feed_114 (by decide) (by decide) rfl
theorem r180_117 : Sd gd_mt M180 117 (i_goto 23) := sd_goto dX8_feed_117 (by decide)
theorem r180_120 : Sd gd_mt M180 120 (i_ald 0 121) := sd_aload_n dX8_feed_120 rfl rfl
theorem r180_121 : Sd gd_mt M180 121 (i_getI 8 2 124) := sd_getI ck8 (by decide) rfl (.inl q1456) dX8_feed_121 rfl
theorem r180_124 : Sd gd_mt M180 124 (i_iret) := sd_iret rfl dX8_feed_124
def cl180_1 : List (Nat × gd_I) := [(96, i_imul 97), (97, i_isub 98), (98, i_ishr 99), (99, i_psh (.int 255) 102), (102, i_iand 103), (103, i_astI 104), (104, i_ald 0 105), (105, i_dup 106), (106, i_getI 8 2 109), (109, i_psh (.int 1) 110), (110, i_iadd 111), (111, i_putI 8 2 114), (114, i_inc 6 1 117), (117, i_goto 23), (120, i_ald 0 121), (121, i_getI 8 2 124), (124, i_iret)]
theorem cs180_1 : ∀ q ∈ cl180_1, Sd gd_mt M180 q.1 q.2 := gd_ac r180_96 (gd_ac r180_97 (gd_ac r180_98 (gd_ac r180_99 (gd_ac r180_102 (gd_ac r180_103 (gd_ac r180_104 (gd_ac r180_105 (gd_ac r180_106 (gd_ac r180_109 (gd_ac r180_110 (gd_ac r180_111 (gd_ac r180_114 (gd_ac r180_117 (gd_ac r180_120 (gd_ac r180_121 (gd_ac r180_124 (gd_an)))))))))))))))))
def cd180 (pc : Nat) : gd_I := if pc < 96 then lkI cl180_0 pc else lkI cl180_1 pc
theorem cg180 : ∀ pc, Sd gd_mt M180 pc (cd180 pc) := by
  intro pc
  unfold cd180
  by_cases h0 : pc < 96
  · rw [if_pos h0]; exact sd_lk cs180_0 pc
  rw [if_neg h0]
  exact sd_lk cs180_1 pc
theorem r181_0 : Sd gd_mt M181 0 (i_ald 0 1) := sd_aload_n dX8_fault_0 rfl rfl
theorem r181_1 : Sd gd_mt M181 1 (i_psh (.int 0) 2) := sd_iconst dX8_fault_1 (by decide) rfl
theorem r181_2 : Sd gd_mt M181 2 (i_putI 8 0 5) := sd_putI ck8 (by decide) rfl (.inl q1454) (.inl rfl) dX8_fault_2 rfl
theorem r181_5 : Sd gd_mt M181 5 (i_ald 0 6) := sd_aload_n dX8_fault_5 rfl rfl
theorem r181_6 : Sd gd_mt M181 6 (i_getI 8 8 9) := sd_getI ck8 (by decide) rfl (.inl q1462) dX8_fault_6 rfl
theorem r181_9 : Sd gd_mt M181 9 (i_iret) := sd_iret rfl dX8_fault_9
def cl181_0 : List (Nat × gd_I) := [(0, i_ald 0 1), (1, i_psh (.int 0) 2), (2, i_putI 8 0 5), (5, i_ald 0 6), (6, i_getI 8 8 9), (9, i_iret)]
theorem cs181_0 : ∀ q ∈ cl181_0, Sd gd_mt M181 q.1 q.2 := gd_ac r181_0 (gd_ac r181_1 (gd_ac r181_2 (gd_ac r181_5 (gd_ac r181_6 (gd_ac r181_9 (gd_an))))))
def cd181 (pc : Nat) : gd_I := lkI cl181_0 pc
theorem cg181 : ∀ pc, Sd gd_mt M181 pc (cd181 pc) := sd_lk cs181_0
theorem r182_0 : Sd gd_mt M182 0 (i_ald 0 1) := sd_aload_n dX8_school_0 rfl rfl
theorem r182_1 : Sd gd_mt M182 1 (i_psh (.int 0) 2) := sd_iconst dX8_school_1 (by decide) rfl
theorem r182_2 : Sd gd_mt M182 2 (i_putI 8 0 5) := sd_putI ck8 (by decide) rfl (.inl q1454) (.inl rfl) dX8_school_2 rfl
theorem r182_5 : Sd gd_mt M182 5 (i_ald 0 6) := sd_aload_n dX8_school_5 rfl rfl
theorem r182_6 : Sd gd_mt M182 6 (i_ild 1 7) := sd_iload_n dX8_school_6 rfl rfl
theorem r182_7 : Sd gd_mt M182 7 (i_iflt 22 10) := sd_iflt dX8_school_7 (by decide) rfl
theorem r182_10 : Sd gd_mt M182 10 (i_ild 1 11) := sd_iload_n dX8_school_10 rfl rfl
theorem r182_11 : Sd gd_mt M182 11 (i_ald 0 12) := sd_aload_n dX8_school_11 rfl rfl
theorem r182_12 : Sd gd_mt M182 12 (i_getI 8 2 15) := sd_getI ck8 (by decide) rfl (.inl q1456) dX8_school_12 rfl
theorem r182_15 : Sd gd_mt M182 15 (i_icgt 22 18) := sd_icgt dX8_school_15 (by decide) rfl
theorem r182_18 : Sd gd_mt M182 18 (i_psh (.int 1) 19) := sd_iconst dX8_school_18 (by decide) rfl
theorem r182_19 : Sd gd_mt M182 19 (i_goto 23) := sd_goto dX8_school_19 (by decide)
theorem r182_22 : Sd gd_mt M182 22 (i_msk [true, true, false, false] (i_psh (.int 0) 23)) := sd_msk _ (sd_iconst dX8_school_22 (by decide) rfl)
theorem r182_23 : Sd gd_mt M182 23 (i_msk [true, true, false, false] (i_psh (.int 1) 24)) := sd_msk _ (sd_iconst dX8_school_23 (by decide) rfl)
theorem r182_24 : Sd gd_mt M182 24 (i_psh (.int 1) 25) := sd_iconst dX8_school_24 (by decide) rfl
theorem r182_25 : Sd gd_mt M182 25 (i_cV 183 3 8 28) := sd_cV2 e183 cal183 q1639 q1641 (rfl : gd_cl 8 = some _) qs30 dX8_school_25 rfl
theorem r182_28 : Sd gd_mt M182 28 (i_msk [true, true, false, false] (i_ifne 33 31)) := sd_msk _ (sd_ifne dX8_school_28 (by decide) rfl)
theorem r182_31 : Sd gd_mt M182 31 (i_psh (.int 0) 32) := sd_iconst dX8_school_31 (by decide) rfl
theorem r182_32 : Sd gd_mt M182 32 (i_iret) := sd_iret rfl dX8_school_32
theorem r182_33 : Sd gd_mt M182 33 (i_ald 0 34) := sd_aload_n dX8_school_33 rfl rfl
theorem r182_34 : Sd gd_mt M182 34 (i_ild 1 35) := sd_iload_n dX8_school_34 rfl rfl
theorem r182_35 : Sd gd_mt M182 35 (i_cV 184 1 8 38) := sd_cV2 e184 cal184 q1643 q1645 (rfl : gd_cl 8 = some _) qs31 dX8_school_35 rfl
theorem r182_38 : Sd gd_mt M182 38 (i_msk [true, false, false, false] (i_ald 0 39)) := sd_msk _ (sd_aload_n dX8_school_38 rfl rfl)
theorem r182_39 : Sd gd_mt M182 39 (i_cV 177 0 8 42) := sd_cV2 e177 cal177 q1442 q1444 (rfl : gd_cl 8 = some _) qs27 dX8_school_39 rfl
theorem r182_42 : Sd gd_mt M182 42 (i_msk [true, false, false, false] (i_psh (.int 0) 43)) := sd_msk _ (sd_iconst dX8_school_42 (by decide) rfl)
theorem r182_43 : Sd gd_mt M182 43 (i_ist 2 44) := sd_istore_n dX8_school_43 rfl (by decide) rfl
theorem r182_44 : Sd gd_mt M182 44 (i_msk [true, false, true, false] (i_ald 0 45)) := sd_msk _ (sd_aload_n dX8_school_44 rfl rfl)
theorem r182_45 : Sd gd_mt M182 45 (i_cV 185 0 8 48) := sd_cV2 e185 cal185 q1647 q1649 (rfl : gd_cl 8 = some _) qs32 dX8_school_45 rfl
theorem r182_48 : Sd gd_mt M182 48 (i_msk [true, false, true, false] (i_ifeq 164 51)) := sd_msk _ (sd_ifeq dX8_school_48 (by decide) rfl)
theorem r182_51 : Sd gd_mt M182 51 (i_ald 0 52) := sd_aload_n dX8_school_51 rfl rfl
theorem r182_52 : Sd gd_mt M182 52 (i_cV 186 0 8 55) := sd_cV2 e186 cal186 q1651 q1653 (rfl : gd_cl 8 = some _) qs33 dX8_school_52 rfl
theorem r182_55 : Sd gd_mt M182 55 (i_msk [true, false, true, false] (i_ifeq 164 58)) := sd_msk _ (sd_ifeq dX8_school_55 (by decide) rfl)
theorem r182_58 : Sd gd_mt M182 58 (i_ald 0 59) := sd_aload_n dX8_school_58 rfl rfl
theorem r182_59 : Sd gd_mt M182 59 (i_cV 188 0 8 62) := sd_cV2 e188 cal188 q1659 q1661 (rfl : gd_cl 8 = some _) qs35 dX8_school_59 rfl
theorem r182_62 : Sd gd_mt M182 62 (i_msk [true, false, true, false] (i_ist 3 63)) := sd_msk _ (sd_istore_n dX8_school_62 rfl (by decide) rfl)
theorem r182_63 : Sd gd_mt M182 63 (i_ild 3 64) := sd_iload_n dX8_school_63 rfl rfl
theorem r182_64 : Sd gd_mt M182 64 (i_cS 190 1 67) := sd_cS2 e190 cal190 q1666 q1667 dX8_school_64 rfl
theorem r182_67 : Sd gd_mt M182 67 (i_msk [true, false, true, true] (i_ifne 82 70)) := sd_msk _ (sd_ifne dX8_school_67 (by decide) rfl)
theorem r182_70 : Sd gd_mt M182 70 (i_ald 0 71) := sd_aload_n dX8_school_70 rfl rfl
theorem r182_71 : Sd gd_mt M182 71 (i_psh (.int 1) 72) := sd_iconst dX8_school_71 (by decide) rfl
theorem r182_72 : Sd gd_mt M182 72 (i_ald 0 73) := sd_aload_n dX8_school_72 rfl rfl
theorem r182_73 : Sd gd_mt M182 73 (i_getI 8 4 76) := sd_getI ck8 (by decide) rfl (.inl q1458) dX8_school_73 rfl
theorem r182_76 : Sd gd_mt M182 76 (i_cV 192 2 8 79) := sd_cV2 e192 cal192 q1678 q1680 (rfl : gd_cl 8 = some _) qs36 dX8_school_76 rfl
theorem r182_79 : Sd gd_mt M182 79 (i_msk [true, false, true, true] (i_goto 133)) := sd_msk _ (sd_goto dX8_school_79 (by decide))
theorem r182_82 : Sd gd_mt M182 82 (i_ild 2 83) := sd_iload_n dX8_school_82 rfl rfl
theorem r182_83 : Sd gd_mt M182 83 (i_psh (.int 60) 85) := sd_bipush dX8_school_83 (by decide) rfl
theorem r182_85 : Sd gd_mt M182 85 (i_iceq 124 88) := sd_iceq dX8_school_85 (by decide) rfl
theorem r182_88 : Sd gd_mt M182 88 (i_ild 3 89) := sd_iload_n dX8_school_88 rfl rfl
def cl182_0 : List (Nat × gd_I) := [(0, i_ald 0 1), (1, i_psh (.int 0) 2), (2, i_putI 8 0 5), (5, i_ald 0 6), (6, i_ild 1 7), (7, i_iflt 22 10), (10, i_ild 1 11), (11, i_ald 0 12), (12, i_getI 8 2 15), (15, i_icgt 22 18), (18, i_psh (.int 1) 19), (19, i_goto 23), (22, i_msk [true, true, false, false] (i_psh (.int 0) 23)), (23, i_msk [true, true, false, false] (i_psh (.int 1) 24)), (24, i_psh (.int 1) 25), (25, i_cV 183 3 8 28), (28, i_msk [true, true, false, false] (i_ifne 33 31)), (31, i_psh (.int 0) 32), (32, i_iret), (33, i_ald 0 34), (34, i_ild 1 35), (35, i_cV 184 1 8 38), (38, i_msk [true, false, false, false] (i_ald 0 39)), (39, i_cV 177 0 8 42), (42, i_msk [true, false, false, false] (i_psh (.int 0) 43)), (43, i_ist 2 44), (44, i_msk [true, false, true, false] (i_ald 0 45)), (45, i_cV 185 0 8 48), (48, i_msk [true, false, true, false] (i_ifeq 164 51)), (51, i_ald 0 52), (52, i_cV 186 0 8 55), (55, i_msk [true, false, true, false] (i_ifeq 164 58)), (58, i_ald 0 59), (59, i_cV 188 0 8 62), (62, i_msk [true, false, true, false] (i_ist 3 63)), (63, i_ild 3 64), (64, i_cS 190 1 67), (67, i_msk [true, false, true, true] (i_ifne 82 70)), (70, i_ald 0 71), (71, i_psh (.int 1) 72), (72, i_ald 0 73), (73, i_getI 8 4 76), (76, i_cV 192 2 8 79), (79, i_msk [true, false, true, true] (i_goto 133)), (82, i_ild 2 83), (83, i_psh (.int 60) 85), (85, i_iceq 124 88), (88, i_ild 3 89)]
theorem cs182_0 : ∀ q ∈ cl182_0, Sd gd_mt M182 q.1 q.2 := gd_ac r182_0 (gd_ac r182_1 (gd_ac r182_2 (gd_ac r182_5 (gd_ac r182_6 (gd_ac r182_7 (gd_ac r182_10 (gd_ac r182_11 (gd_ac r182_12 (gd_ac r182_15 (gd_ac r182_18 (gd_ac r182_19 (gd_ac r182_22 (gd_ac r182_23 (gd_ac r182_24 (gd_ac r182_25 (gd_ac r182_28 (gd_ac r182_31 (gd_ac r182_32 (gd_ac r182_33 (gd_ac r182_34 (gd_ac r182_35 (gd_ac r182_38 (gd_ac r182_39 (gd_ac r182_42 (gd_ac r182_43 (gd_ac r182_44 (gd_ac r182_45 (gd_ac r182_48 (gd_ac r182_51 (gd_ac r182_52 (gd_ac r182_55 (gd_ac r182_58 (gd_ac r182_59 (gd_ac r182_62 (gd_ac r182_63 (gd_ac r182_64 (gd_ac r182_67 (gd_ac r182_70 (gd_ac r182_71 (gd_ac r182_72 (gd_ac r182_73 (gd_ac r182_76 (gd_ac r182_79 (gd_ac r182_82 (gd_ac r182_83 (gd_ac r182_85 (gd_ac r182_88 (gd_an))))))))))))))))))))))))))))))))))))))))))))))))
theorem r182_89 : Sd gd_mt M182 89 (i_psh (.ref 52) 91) := sd_ldcS (n := 52) dX8_school_89 (List.mem_of_getElem? (i := 22) rfl) (by decide) rfl
theorem r182_91 : Sd gd_mt M182 91 (i_cS 191 1 94) := sd_cS2 e191 cal191 q1670 q1671 dX8_school_91 rfl
theorem r182_94 : Sd gd_mt M182 94 (i_msk [true, false, true, true] (i_icne 106 97)) := sd_msk _ (sd_icne dX8_school_94 (by decide) rfl)
theorem r182_97 : Sd gd_mt M182 97 (i_ald 0 98) := sd_aload_n dX8_school_97 rfl rfl
theorem r182_98 : Sd gd_mt M182 98 (i_getI 8 18 101) := sd_getI ck8 (by decide) rfl (.inl q1472) dX8_school_98 rfl
theorem r182_101 : Sd gd_mt M182 101 (i_psh (.int 6) 103) := sd_bipush dX8_school_101 (by decide) rfl
theorem r182_103 : Sd gd_mt M182 103 (i_iceq 124 106) := sd_iceq dX8_school_103 (by decide) rfl
theorem r182_106 : Sd gd_mt M182 106 (i_msk [true, false, true, true] (i_ild 3 107)) := sd_msk _ (sd_iload_n dX8_school_106 rfl rfl)
theorem r182_107 : Sd gd_mt M182 107 (i_psh (.ref 54) 109) := sd_ldcS (n := 54) dX8_school_107 (List.mem_of_getElem? (i := 23) rfl) (by decide) rfl
theorem r182_109 : Sd gd_mt M182 109 (i_cS 191 1 112) := sd_cS2 e191 cal191 q1670 q1671 dX8_school_109 rfl
theorem r182_112 : Sd gd_mt M182 112 (i_msk [true, false, true, true] (i_icne 133 115)) := sd_msk _ (sd_icne dX8_school_112 (by decide) rfl)
theorem r182_115 : Sd gd_mt M182 115 (i_ald 0 116) := sd_aload_n dX8_school_115 rfl rfl
theorem r182_116 : Sd gd_mt M182 116 (i_getI 8 19 119) := sd_getI ck8 (by decide) rfl (.inl q1473) dX8_school_116 rfl
theorem r182_119 : Sd gd_mt M182 119 (i_psh (.int 7) 121) := sd_bipush dX8_school_119 (by decide) rfl
theorem r182_121 : Sd gd_mt M182 121 (i_icne 133 124) := sd_icne dX8_school_121 (by decide) rfl
theorem r182_124 : Sd gd_mt M182 124 (i_msk [true, false, true, true] (i_ald 0 125)) := sd_msk _ (sd_aload_n dX8_school_124 rfl rfl)
theorem r182_125 : Sd gd_mt M182 125 (i_psh (.int 3) 126) := sd_iconst dX8_school_125 (by decide) rfl
theorem r182_126 : Sd gd_mt M182 126 (i_ald 0 127) := sd_aload_n dX8_school_126 rfl rfl
theorem r182_127 : Sd gd_mt M182 127 (i_getI 8 4 130) := sd_getI ck8 (by decide) rfl (.inl q1458) dX8_school_127 rfl
theorem r182_130 : Sd gd_mt M182 130 (i_cV 192 2 8 133) := sd_cV2 e192 cal192 q1678 q1680 (rfl : gd_cl 8 = some _) qs36 dX8_school_130 rfl
theorem r182_133 : Sd gd_mt M182 133 (i_msk [true, false, true, true] (i_ald 0 134)) := sd_msk _ (sd_aload_n dX8_school_133 rfl rfl)
theorem r182_134 : Sd gd_mt M182 134 (i_cV 185 0 8 137) := sd_cV2 e185 cal185 q1647 q1649 (rfl : gd_cl 8 = some _) qs32 dX8_school_134 rfl
theorem r182_137 : Sd gd_mt M182 137 (i_msk [true, false, true, true] (i_ifne 143 140)) := sd_msk _ (sd_ifne dX8_school_137 (by decide) rfl)
theorem r182_140 : Sd gd_mt M182 140 (i_goto 164) := sd_goto dX8_school_140 (by decide)
theorem r182_143 : Sd gd_mt M182 143 (i_ald 0 144) := sd_aload_n dX8_school_143 rfl rfl
theorem r182_144 : Sd gd_mt M182 144 (i_cV 193 0 8 147) := sd_cV2 e193 cal193 q1682 q1684 (rfl : gd_cl 8 = some _) qs37 dX8_school_144 rfl
theorem r182_147 : Sd gd_mt M182 147 (i_msk [true, false, true, true] (i_ald 0 148)) := sd_msk _ (sd_aload_n dX8_school_147 rfl rfl)
theorem r182_148 : Sd gd_mt M182 148 (i_ild 3 149) := sd_iload_n dX8_school_148 rfl rfl
theorem r182_149 : Sd gd_mt M182 149 (i_cV 194 1 8 152) := sd_cV2 e194 cal194 q1686 q1688 (rfl : gd_cl 8 = some _) qs38 dX8_school_149 rfl
theorem r182_152 : Sd gd_mt M182 152 (i_msk [true, false, true, false] (i_ald 0 153)) := sd_msk _ (sd_aload_n dX8_school_152 rfl rfl)
theorem r182_153 : Sd gd_mt M182 153 (i_psh (.int 59) 155) := sd_bipush dX8_school_153 (by decide) rfl
theorem r182_155 : Sd gd_mt M182 155 (i_cV 198 1 8 158) := sd_cV2 e198 cal198 q1701 q1703 (rfl : gd_cl 8 = some _) qs41 dX8_school_155 rfl
theorem r182_158 : Sd gd_mt M182 158 (i_msk [true, false, true, false] (i_inc 2 1 161)) := sd_msk _ (sd_iinc dX8_school_158 (by decide) (by decide) rfl)
theorem r182_161 : Sd gd_mt M182 161 (i_goto 44) := sd_goto dX8_school_161 (by decide)
theorem r182_164 : Sd gd_mt M182 164 (i_msk [true, false, false, false] (i_ald 0 165)) := sd_msk _ (sd_aload_n dX8_school_164 rfl rfl)
theorem r182_165 : Sd gd_mt M182 165 (i_ald 0 166) := sd_aload_n dX8_school_165 rfl rfl
theorem r182_166 : Sd gd_mt M182 166 (i_getI 8 19 169) := sd_getI ck8 (by decide) rfl (.inl q1473) dX8_school_166 rfl
theorem r182_169 : Sd gd_mt M182 169 (i_cV 199 1 8 172) := sd_cV2 e199 cal199 q1705 q1707 (rfl : gd_cl 8 = some _) qs42 dX8_school_169 rfl
theorem r182_172 : Sd gd_mt M182 172 (i_msk [true, false, false, false] (i_ist 3 173)) := sd_msk _ (sd_istore_n dX8_school_172 rfl (by decide) rfl)
theorem r182_173 : Sd gd_mt M182 173 (i_ald 0 174) := sd_aload_n dX8_school_173 rfl rfl
theorem r182_174 : Sd gd_mt M182 174 (i_getI 8 5 177) := sd_getI ck8 (by decide) rfl (.inl q1459) dX8_school_174 rfl
theorem r182_177 : Sd gd_mt M182 177 (i_psh (.int (-1)) 178) := sd_iconst dX8_school_177 (by decide) rfl
theorem r182_178 : Sd gd_mt M182 178 (i_icne 185 181) := sd_icne dX8_school_178 (by decide) rfl
theorem r182_181 : Sd gd_mt M182 181 (i_ald 0 182) := sd_aload_n dX8_school_181 rfl rfl
theorem r182_182 : Sd gd_mt M182 182 (i_cV 178 0 8 185) := sd_cV2 e178 cal178 q1446 q1448 (rfl : gd_cl 8 = some _) qs28 dX8_school_182 rfl
theorem r182_185 : Sd gd_mt M182 185 (i_msk [false, false, false, true] (i_ild 3 186)) := sd_msk _ (sd_iload_n dX8_school_185 rfl rfl)
theorem r182_186 : Sd gd_mt M182 186 (i_iret) := sd_iret rfl dX8_school_186
def cl182_1 : List (Nat × gd_I) := [(89, i_psh (.ref 52) 91), (91, i_cS 191 1 94), (94, i_msk [true, false, true, true] (i_icne 106 97)), (97, i_ald 0 98), (98, i_getI 8 18 101), (101, i_psh (.int 6) 103), (103, i_iceq 124 106), (106, i_msk [true, false, true, true] (i_ild 3 107)), (107, i_psh (.ref 54) 109), (109, i_cS 191 1 112), (112, i_msk [true, false, true, true] (i_icne 133 115)), (115, i_ald 0 116), (116, i_getI 8 19 119), (119, i_psh (.int 7) 121), (121, i_icne 133 124), (124, i_msk [true, false, true, true] (i_ald 0 125)), (125, i_psh (.int 3) 126), (126, i_ald 0 127), (127, i_getI 8 4 130), (130, i_cV 192 2 8 133), (133, i_msk [true, false, true, true] (i_ald 0 134)), (134, i_cV 185 0 8 137), (137, i_msk [true, false, true, true] (i_ifne 143 140)), (140, i_goto 164), (143, i_ald 0 144), (144, i_cV 193 0 8 147), (147, i_msk [true, false, true, true] (i_ald 0 148)), (148, i_ild 3 149), (149, i_cV 194 1 8 152), (152, i_msk [true, false, true, false] (i_ald 0 153)), (153, i_psh (.int 59) 155), (155, i_cV 198 1 8 158), (158, i_msk [true, false, true, false] (i_inc 2 1 161)), (161, i_goto 44), (164, i_msk [true, false, false, false] (i_ald 0 165)), (165, i_ald 0 166), (166, i_getI 8 19 169), (169, i_cV 199 1 8 172), (172, i_msk [true, false, false, false] (i_ist 3 173)), (173, i_ald 0 174), (174, i_getI 8 5 177), (177, i_psh (.int (-1)) 178), (178, i_icne 185 181), (181, i_ald 0 182), (182, i_cV 178 0 8 185), (185, i_msk [false, false, false, true] (i_ild 3 186)), (186, i_iret)]
theorem cs182_1 : ∀ q ∈ cl182_1, Sd gd_mt M182 q.1 q.2 := gd_ac r182_89 (gd_ac r182_91 (gd_ac r182_94 (gd_ac r182_97 (gd_ac r182_98 (gd_ac r182_101 (gd_ac r182_103 (gd_ac r182_106 (gd_ac r182_107 (gd_ac r182_109 (gd_ac r182_112 (gd_ac r182_115 (gd_ac r182_116 (gd_ac r182_119 (gd_ac r182_121 (gd_ac r182_124 (gd_ac r182_125 (gd_ac r182_126 (gd_ac r182_127 (gd_ac r182_130 (gd_ac r182_133 (gd_ac r182_134 (gd_ac r182_137 (gd_ac r182_140 (gd_ac r182_143 (gd_ac r182_144 (gd_ac r182_147 (gd_ac r182_148 (gd_ac r182_149 (gd_ac r182_152 (gd_ac r182_153 (gd_ac r182_155 (gd_ac r182_158 (gd_ac r182_161 (gd_ac r182_164 (gd_ac r182_165 (gd_ac r182_166 (gd_ac r182_169 (gd_ac r182_172 (gd_ac r182_173 (gd_ac r182_174 (gd_ac r182_177 (gd_ac r182_178 (gd_ac r182_181 (gd_ac r182_182 (gd_ac r182_185 (gd_ac r182_186 (gd_an)))))))))))))))))))))))))))))))))))))))))))))))
def cd182 (pc : Nat) : gd_I := if pc < 89 then lkI cl182_0 pc else lkI cl182_1 pc
theorem cg182 : ∀ pc, Sd gd_mt M182 pc (cd182 pc) := by
  intro pc
  unfold cd182
  by_cases h0 : pc < 89
  · rw [if_pos h0]; exact sd_lk cs182_0 pc
  rw [if_neg h0]
  exact sd_lk cs182_1 pc
theorem r183_0 : Sd gd_mt M183 0 (i_ild 1 1) := sd_iload_n dX8_may_0 rfl rfl
theorem r183_1 : Sd gd_mt M183 1 (i_ifne 26 4) := sd_ifne dX8_may_1 (by decide) rfl
theorem r183_4 : Sd gd_mt M183 4 (i_ald 0 5) := sd_aload_n dX8_may_4 rfl rfl
theorem r183_5 : Sd gd_mt M183 5 (i_getI 8 0 8) := sd_getI ck8 (by decide) rfl (.inl q1454) dX8_may_5 rfl
theorem r183_8 : Sd gd_mt M183 8 (i_ifne 26 11) := sd_ifne dX8_may_8 (by decide) rfl
theorem r183_11 : Sd gd_mt M183 11 (i_ald 0 12) := sd_aload_n dX8_may_11 rfl rfl
theorem r183_12 : Sd gd_mt M183 12 (i_ild 2 13) := sd_iload_n dX8_may_12 rfl rfl
theorem r183_13 : Sd gd_mt M183 13 (i_putI 8 0 16) := sd_putI ck8 (by decide) rfl (.inl q1454) (.inl rfl) dX8_may_13 rfl
theorem r183_16 : Sd gd_mt M183 16 (i_ald 0 17) := sd_aload_n dX8_may_16 rfl rfl
theorem r183_17 : Sd gd_mt M183 17 (i_getR 8 1 20) := sd_getR ck8 (by decide) rfl (.inl q1455) dX8_may_17 rfl
theorem r183_20 : Sd gd_mt M183 20 (i_ild 3 21) := sd_iload_n dX8_may_20 rfl rfl
theorem r183_21 : Sd gd_mt M183 21 (i_dup2 22) := sd_dup2 dX8_may_21 rfl
theorem r183_22 : Sd gd_mt M183 22 (i_aldI 31 23) := sd_iald dX8_may_22 rfl
theorem r183_23 : Sd gd_mt M183 23 (i_psh (.int 1) 24) := sd_iconst dX8_may_23 (by decide) rfl
theorem r183_24 : Sd gd_mt M183 24 (i_iadd 25) := sd_iadd dX8_may_24 rfl
theorem r183_25 : Sd gd_mt M183 25 (i_astI 26) := sd_astI dX8_may_25 rfl
theorem r183_26 : Sd gd_mt M183 26 (i_msk [true, false, false, false] (i_ald 0 27)) := sd_msk _ (sd_aload_n dX8_may_26 rfl rfl)
theorem r183_27 : Sd gd_mt M183 27 (i_getI 8 0 30) := sd_getI ck8 (by decide) rfl (.inl q1454) dX8_may_27 rfl
theorem r183_30 : Sd gd_mt M183 30 (i_ifne 37 33) := sd_ifne dX8_may_30 (by decide) rfl
theorem r183_33 : Sd gd_mt M183 33 (i_psh (.int 1) 34) := sd_iconst dX8_may_33 (by decide) rfl
theorem r183_34 : Sd gd_mt M183 34 (i_goto 38) := sd_goto dX8_may_34 (by decide)
theorem r183_37 : Sd gd_mt M183 37 (i_psh (.int 0) 38) := sd_iconst dX8_may_37 (by decide) rfl
theorem r183_38 : Sd gd_mt M183 38 (i_msk [false, false, false, false] (i_zret)) := sd_msk _ (sd_zret rfl dX8_may_38)
def cl183_0 : List (Nat × gd_I) := [(0, i_ild 1 1), (1, i_ifne 26 4), (4, i_ald 0 5), (5, i_getI 8 0 8), (8, i_ifne 26 11), (11, i_ald 0 12), (12, i_ild 2 13), (13, i_putI 8 0 16), (16, i_ald 0 17), (17, i_getR 8 1 20), (20, i_ild 3 21), (21, i_dup2 22), (22, i_aldI 31 23), (23, i_psh (.int 1) 24), (24, i_iadd 25), (25, i_astI 26), (26, i_msk [true, false, false, false] (i_ald 0 27)), (27, i_getI 8 0 30), (30, i_ifne 37 33), (33, i_psh (.int 1) 34), (34, i_goto 38), (37, i_psh (.int 0) 38), (38, i_msk [false, false, false, false] (i_zret))]
theorem cs183_0 : ∀ q ∈ cl183_0, Sd gd_mt M183 q.1 q.2 := gd_ac r183_0 (gd_ac r183_1 (gd_ac r183_4 (gd_ac r183_5 (gd_ac r183_8 (gd_ac r183_11 (gd_ac r183_12 (gd_ac r183_13 (gd_ac r183_16 (gd_ac r183_17 (gd_ac r183_20 (gd_ac r183_21 (gd_ac r183_22 (gd_ac r183_23 (gd_ac r183_24 (gd_ac r183_25 (gd_ac r183_26 (gd_ac r183_27 (gd_ac r183_30 (gd_ac r183_33 (gd_ac r183_34 (gd_ac r183_37 (gd_ac r183_38 (gd_an)))))))))))))))))))))))
def cd183 (pc : Nat) : gd_I := lkI cl183_0 pc
theorem cg183 : ∀ pc, Sd gd_mt M183 pc (cd183 pc) := sd_lk cs183_0
theorem r184_0 : Sd gd_mt M184 0 (i_ald 0 1) := sd_aload_n dX8_begins_0 rfl rfl
theorem r184_1 : Sd gd_mt M184 1 (i_psh (.int 0) 2) := sd_iconst dX8_begins_1 (by decide) rfl
theorem r184_2 : Sd gd_mt M184 2 (i_putI 8 2 5) := sd_putI ck8 (by decide) rfl (.inl q1456) (.inl rfl) dX8_begins_2 rfl
theorem r184_5 : Sd gd_mt M184 5 (i_ald 0 6) := sd_aload_n dX8_begins_5 rfl rfl
theorem r184_6 : Sd gd_mt M184 6 (i_psh (.int (-1)) 7) := sd_iconst dX8_begins_6 (by decide) rfl
theorem r184_7 : Sd gd_mt M184 7 (i_putI 8 8 10) := sd_putI ck8 (by decide) rfl (.inl q1462) (.inl rfl) dX8_begins_7 rfl
theorem r184_10 : Sd gd_mt M184 10 (i_ald 0 11) := sd_aload_n dX8_begins_10 rfl rfl
theorem r184_11 : Sd gd_mt M184 11 (i_ild 1 12) := sd_iload_n dX8_begins_11 rfl rfl
theorem r184_12 : Sd gd_mt M184 12 (i_putI 8 3 15) := sd_putI ck8 (by decide) rfl (.inl q1457) (.inl rfl) dX8_begins_12 rfl
theorem r184_15 : Sd gd_mt M184 15 (i_ald 0 16) := sd_aload_n dX8_begins_15 rfl rfl
theorem r184_16 : Sd gd_mt M184 16 (i_psh (.int 0) 17) := sd_iconst dX8_begins_16 (by decide) rfl
theorem r184_17 : Sd gd_mt M184 17 (i_putI 8 4 20) := sd_putI ck8 (by decide) rfl (.inl q1458) (.inl rfl) dX8_begins_17 rfl
theorem r184_20 : Sd gd_mt M184 20 (i_ald 0 21) := sd_aload_n dX8_begins_20 rfl rfl
theorem r184_21 : Sd gd_mt M184 21 (i_psh (.int (-1)) 22) := sd_iconst dX8_begins_21 (by decide) rfl
theorem r184_22 : Sd gd_mt M184 22 (i_putI 8 5 25) := sd_putI ck8 (by decide) rfl (.inl q1459) (.inl rfl) dX8_begins_22 rfl
theorem r184_25 : Sd gd_mt M184 25 (i_ald 0 26) := sd_aload_n dX8_begins_25 rfl rfl
theorem r184_26 : Sd gd_mt M184 26 (i_psh (.int 0) 27) := sd_iconst dX8_begins_26 (by decide) rfl
theorem r184_27 : Sd gd_mt M184 27 (i_putI 8 7 30) := sd_putI ck8 (by decide) rfl (.inl q1461) (.inl rfl) dX8_begins_27 rfl
theorem r184_30 : Sd gd_mt M184 30 (i_ret) := sd_ret rfl dX8_begins_30
def cl184_0 : List (Nat × gd_I) := [(0, i_ald 0 1), (1, i_psh (.int 0) 2), (2, i_putI 8 2 5), (5, i_ald 0 6), (6, i_psh (.int (-1)) 7), (7, i_putI 8 8 10), (10, i_ald 0 11), (11, i_ild 1 12), (12, i_putI 8 3 15), (15, i_ald 0 16), (16, i_psh (.int 0) 17), (17, i_putI 8 4 20), (20, i_ald 0 21), (21, i_psh (.int (-1)) 22), (22, i_putI 8 5 25), (25, i_ald 0 26), (26, i_psh (.int 0) 27), (27, i_putI 8 7 30), (30, i_ret)]
theorem cs184_0 : ∀ q ∈ cl184_0, Sd gd_mt M184 q.1 q.2 := gd_ac r184_0 (gd_ac r184_1 (gd_ac r184_2 (gd_ac r184_5 (gd_ac r184_6 (gd_ac r184_7 (gd_ac r184_10 (gd_ac r184_11 (gd_ac r184_12 (gd_ac r184_15 (gd_ac r184_16 (gd_ac r184_17 (gd_ac r184_20 (gd_ac r184_21 (gd_ac r184_22 (gd_ac r184_25 (gd_ac r184_26 (gd_ac r184_27 (gd_ac r184_30 (gd_an)))))))))))))))))))
def cd184 (pc : Nat) : gd_I := lkI cl184_0 pc
theorem cg184 : ∀ pc, Sd gd_mt M184 pc (cd184 pc) := sd_lk cs184_0
theorem r185_0 : Sd gd_mt M185 0 (i_ald 0 1) := sd_aload_n dX8_fine_0 rfl rfl
theorem r185_1 : Sd gd_mt M185 1 (i_getI 8 5 4) := sd_getI ck8 (by decide) rfl (.inl q1459) dX8_fine_1 rfl
theorem r185_4 : Sd gd_mt M185 4 (i_psh (.int (-1)) 5) := sd_iconst dX8_fine_4 (by decide) rfl
theorem r185_5 : Sd gd_mt M185 5 (i_icne 12 8) := sd_icne dX8_fine_5 (by decide) rfl
theorem r185_8 : Sd gd_mt M185 8 (i_psh (.int 1) 9) := sd_iconst dX8_fine_8 (by decide) rfl
theorem r185_9 : Sd gd_mt M185 9 (i_goto 13) := sd_goto dX8_fine_9 (by decide)
theorem r185_12 : Sd gd_mt M185 12 (i_psh (.int 0) 13) := sd_iconst dX8_fine_12 (by decide) rfl
theorem r185_13 : Sd gd_mt M185 13 (i_msk [false] (i_zret)) := sd_msk _ (sd_zret rfl dX8_fine_13)
def cl185_0 : List (Nat × gd_I) := [(0, i_ald 0 1), (1, i_getI 8 5 4), (4, i_psh (.int (-1)) 5), (5, i_icne 12 8), (8, i_psh (.int 1) 9), (9, i_goto 13), (12, i_psh (.int 0) 13), (13, i_msk [false] (i_zret))]
theorem cs185_0 : ∀ q ∈ cl185_0, Sd gd_mt M185 q.1 q.2 := gd_ac r185_0 (gd_ac r185_1 (gd_ac r185_4 (gd_ac r185_5 (gd_ac r185_8 (gd_ac r185_9 (gd_ac r185_12 (gd_ac r185_13 (gd_an))))))))
def cd185 (pc : Nat) : gd_I := lkI cl185_0 pc
theorem cg185 : ∀ pc, Sd gd_mt M185 pc (cd185 pc) := sd_lk cs185_0
theorem r186_0 : Sd gd_mt M186 0 (i_ald 0 1) := sd_aload_n dX8_isMore_0 rfl rfl
theorem r186_1 : Sd gd_mt M186 1 (i_cV 187 0 8 4) := sd_cV2 e187 cal187 q1655 q1657 (rfl : gd_cl 8 = some _) qs34 dX8_isMore_1 rfl
theorem r186_4 : Sd gd_mt M186 4 (i_msk [true] (i_pop 5)) := sd_msk _ (sd_pop dX8_isMore_4 rfl)
theorem r186_5 : Sd gd_mt M186 5 (i_ald 0 6) := sd_aload_n dX8_isMore_5 rfl rfl
theorem r186_6 : Sd gd_mt M186 6 (i_getI 8 4 9) := sd_getI ck8 (by decide) rfl (.inl q1458) dX8_isMore_6 rfl
theorem r186_9 : Sd gd_mt M186 9 (i_ald 0 10) := sd_aload_n dX8_isMore_9 rfl rfl
theorem r186_10 : Sd gd_mt M186 10 (i_getI 8 3 13) := sd_getI ck8 (by decide) rfl (.inl q1457) dX8_isMore_10 rfl
theorem r186_13 : Sd gd_mt M186 13 (i_icge 20 16) := sd_icge dX8_isMore_13 (by decide) rfl
theorem r186_16 : Sd gd_mt M186 16 (i_psh (.int 1) 17) := sd_iconst dX8_isMore_16 (by decide) rfl
theorem r186_17 : Sd gd_mt M186 17 (i_goto 21) := sd_goto dX8_isMore_17 (by decide)
theorem r186_20 : Sd gd_mt M186 20 (i_psh (.int 0) 21) := sd_iconst dX8_isMore_20 (by decide) rfl
theorem r186_21 : Sd gd_mt M186 21 (i_msk [false] (i_zret)) := sd_msk _ (sd_zret rfl dX8_isMore_21)
def cl186_0 : List (Nat × gd_I) := [(0, i_ald 0 1), (1, i_cV 187 0 8 4), (4, i_msk [true] (i_pop 5)), (5, i_ald 0 6), (6, i_getI 8 4 9), (9, i_ald 0 10), (10, i_getI 8 3 13), (13, i_icge 20 16), (16, i_psh (.int 1) 17), (17, i_goto 21), (20, i_psh (.int 0) 21), (21, i_msk [false] (i_zret))]
theorem cs186_0 : ∀ q ∈ cl186_0, Sd gd_mt M186 q.1 q.2 := gd_ac r186_0 (gd_ac r186_1 (gd_ac r186_4 (gd_ac r186_5 (gd_ac r186_6 (gd_ac r186_9 (gd_ac r186_10 (gd_ac r186_13 (gd_ac r186_16 (gd_ac r186_17 (gd_ac r186_20 (gd_ac r186_21 (gd_an))))))))))))
def cd186 (pc : Nat) : gd_I := lkI cl186_0 pc
theorem cg186 : ∀ pc, Sd gd_mt M186 pc (cd186 pc) := sd_lk cs186_0
theorem r187_0 : Sd gd_mt M187 0 (i_msk [true] (i_ald 0 1)) := sd_msk _ (sd_aload_n dX8_here_0 rfl rfl)
theorem r187_1 : Sd gd_mt M187 1 (i_getI 8 4 4) := sd_getI ck8 (by decide) rfl (.inl q1458) dX8_here_1 rfl
theorem r187_4 : Sd gd_mt M187 4 (i_ald 0 5) := sd_aload_n dX8_here_4 rfl rfl
theorem r187_5 : Sd gd_mt M187 5 (i_getI 8 3 8) := sd_getI ck8 (by decide) rfl (.inl q1457) dX8_here_5 rfl
theorem r187_8 : Sd gd_mt M187 8 (i_icge 38 11) := sd_icge dX8_here_8 (by decide) rfl
theorem r187_11 : Sd gd_mt M187 11 (i_ald 0 12) := sd_aload_n dX8_here_11 rfl rfl
theorem r187_12 : Sd gd_mt M187 12 (i_getR 8 9 15) := sd_getR ck8 (by decide) rfl (.inl q1463) dX8_here_12 rfl
theorem r187_15 : Sd gd_mt M187 15 (i_ald 0 16) := sd_aload_n dX8_here_15 rfl rfl
theorem r187_16 : Sd gd_mt M187 16 (i_getI 8 4 19) := sd_getI ck8 (by decide) rfl (.inl q1458) dX8_here_16 rfl
theorem r187_19 : Sd gd_mt M187 19 (i_aldI 31 20) := sd_iald dX8_here_19 rfl
theorem r187_20 : Sd gd_mt M187 20 (i_psh (.int 32) 22) := sd_bipush dX8_here_20 (by decide) rfl
theorem r187_22 : Sd gd_mt M187 22 (i_icne 38 25) := sd_icne dX8_here_22 (by decide) rfl
theorem r187_25 : Sd gd_mt M187 25 (i_ald 0 26) := sd_aload_n dX8_here_25 rfl rfl
theorem r187_26 : Sd gd_mt M187 26 (i_dup 27) := sd_dup dX8_here_26 rfl
theorem r187_27 : Sd gd_mt M187 27 (i_getI 8 4 30) := sd_getI ck8 (by decide) rfl (.inl q1458) dX8_here_27 rfl
theorem r187_30 : Sd gd_mt M187 30 (i_psh (.int 1) 31) := sd_iconst dX8_here_30 (by decide) rfl
theorem r187_31 : Sd gd_mt M187 31 (i_iadd 32) := sd_iadd dX8_here_31 rfl
theorem r187_32 : Sd gd_mt M187 32 (i_putI 8 4 35) := sd_putI ck8 (by decide) rfl (.inl q1458) (.inl rfl) dX8_here_32 rfl
theorem r187_35 : Sd gd_mt M187 35 (i_goto 0) := sd_goto dX8_here_35 (by decide)
theorem r187_38 : Sd gd_mt M187 38 (i_msk [true] (i_ald 0 39)) := sd_msk _ (sd_aload_n dX8_here_38 rfl rfl)
theorem r187_39 : Sd gd_mt M187 39 (i_getI 8 4 42) := sd_getI ck8 (by decide) rfl (.inl q1458) dX8_here_39 rfl
theorem r187_42 : Sd gd_mt M187 42 (i_ald 0 43) := sd_aload_n dX8_here_42 rfl rfl
theorem r187_43 : Sd gd_mt M187 43 (i_getI 8 3 46) := sd_getI ck8 (by decide) rfl (.inl q1457) dX8_here_43 rfl
theorem r187_46 : Sd gd_mt M187 46 (i_icge 61 49) := sd_icge dX8_here_46 (by decide) rfl
theorem r187_49 : Sd gd_mt M187 49 (i_ald 0 50) := sd_aload_n dX8_here_49 rfl rfl
theorem r187_50 : Sd gd_mt M187 50 (i_getR 8 9 53) := sd_getR ck8 (by decide) rfl (.inl q1463) dX8_here_50 rfl
theorem r187_53 : Sd gd_mt M187 53 (i_ald 0 54) := sd_aload_n dX8_here_53 rfl rfl
theorem r187_54 : Sd gd_mt M187 54 (i_getI 8 4 57) := sd_getI ck8 (by decide) rfl (.inl q1458) dX8_here_54 rfl
theorem r187_57 : Sd gd_mt M187 57 (i_aldI 31 58) := sd_iald dX8_here_57 rfl
theorem r187_58 : Sd gd_mt M187 58 (i_goto 62) := sd_goto dX8_here_58 (by decide)
theorem r187_61 : Sd gd_mt M187 61 (i_psh (.int 0) 62) := sd_iconst dX8_here_61 (by decide) rfl
theorem r187_62 : Sd gd_mt M187 62 (i_msk [false] (i_iret)) := sd_msk _ (sd_iret rfl dX8_here_62)
def cl187_0 : List (Nat × gd_I) := [(0, i_msk [true] (i_ald 0 1)), (1, i_getI 8 4 4), (4, i_ald 0 5), (5, i_getI 8 3 8), (8, i_icge 38 11), (11, i_ald 0 12), (12, i_getR 8 9 15), (15, i_ald 0 16), (16, i_getI 8 4 19), (19, i_aldI 31 20), (20, i_psh (.int 32) 22), (22, i_icne 38 25), (25, i_ald 0 26), (26, i_dup 27), (27, i_getI 8 4 30), (30, i_psh (.int 1) 31), (31, i_iadd 32), (32, i_putI 8 4 35), (35, i_goto 0), (38, i_msk [true] (i_ald 0 39)), (39, i_getI 8 4 42), (42, i_ald 0 43), (43, i_getI 8 3 46), (46, i_icge 61 49), (49, i_ald 0 50), (50, i_getR 8 9 53), (53, i_ald 0 54), (54, i_getI 8 4 57), (57, i_aldI 31 58), (58, i_goto 62), (61, i_psh (.int 0) 62), (62, i_msk [false] (i_iret))]
theorem cs187_0 : ∀ q ∈ cl187_0, Sd gd_mt M187 q.1 q.2 := gd_ac r187_0 (gd_ac r187_1 (gd_ac r187_4 (gd_ac r187_5 (gd_ac r187_8 (gd_ac r187_11 (gd_ac r187_12 (gd_ac r187_15 (gd_ac r187_16 (gd_ac r187_19 (gd_ac r187_20 (gd_ac r187_22 (gd_ac r187_25 (gd_ac r187_26 (gd_ac r187_27 (gd_ac r187_30 (gd_ac r187_31 (gd_ac r187_32 (gd_ac r187_35 (gd_ac r187_38 (gd_ac r187_39 (gd_ac r187_42 (gd_ac r187_43 (gd_ac r187_46 (gd_ac r187_49 (gd_ac r187_50 (gd_ac r187_53 (gd_ac r187_54 (gd_ac r187_57 (gd_ac r187_58 (gd_ac r187_61 (gd_ac r187_62 (gd_an))))))))))))))))))))))))))))))))
def cd187 (pc : Nat) : gd_I := lkI cl187_0 pc
theorem cg187 : ∀ pc, Sd gd_mt M187 pc (cd187 pc) := sd_lk cs187_0
theorem r188_0 : Sd gd_mt M188 0 (i_ald 0 1) := sd_aload_n dX8_word_0 rfl rfl
theorem r188_1 : Sd gd_mt M188 1 (i_cV 187 0 8 4) := sd_cV2 e187 cal187 q1655 q1657 (rfl : gd_cl 8 = some _) qs34 dX8_word_1 rfl
theorem r188_4 : Sd gd_mt M188 4 (i_msk [true, false, false, false] (i_pop 5)) := sd_msk _ (sd_pop dX8_word_4 rfl)
theorem r188_5 : Sd gd_mt M188 5 (i_psh (.int 0) 6) := sd_iconst dX8_word_5 (by decide) rfl
theorem r188_6 : Sd gd_mt M188 6 (i_ist 1 7) := sd_istore_n dX8_word_6 rfl (by decide) rfl
theorem r188_7 : Sd gd_mt M188 7 (i_psh (.int 0) 8) := sd_iconst dX8_word_7 (by decide) rfl
theorem r188_8 : Sd gd_mt M188 8 (i_ist 2 9) := sd_istore_n dX8_word_8 rfl (by decide) rfl
theorem r188_9 : Sd gd_mt M188 9 (i_ald 0 10) := sd_aload_n dX8_word_9 rfl rfl
theorem r188_10 : Sd gd_mt M188 10 (i_getI 8 4 13) := sd_getI ck8 (by decide) rfl (.inl q1458) dX8_word_10 rfl
theorem r188_13 : Sd gd_mt M188 13 (i_ist 3 14) := sd_istore_n dX8_word_13 rfl (by decide) rfl
theorem r188_14 : Sd gd_mt M188 14 (i_msk [true, true, true, true] (i_ild 3 15)) := sd_msk _ (sd_iload_n dX8_word_14 rfl rfl)
theorem r188_15 : Sd gd_mt M188 15 (i_ald 0 16) := sd_aload_n dX8_word_15 rfl rfl
theorem r188_16 : Sd gd_mt M188 16 (i_getI 8 3 19) := sd_getI ck8 (by decide) rfl (.inl q1457) dX8_word_16 rfl
theorem r188_19 : Sd gd_mt M188 19 (i_icge 67 22) := sd_icge dX8_word_19 (by decide) rfl
theorem r188_22 : Sd gd_mt M188 22 (i_ald 0 23) := sd_aload_n dX8_word_22 rfl rfl
theorem r188_23 : Sd gd_mt M188 23 (i_getR 8 9 26) := sd_getR ck8 (by decide) rfl (.inl q1463) dX8_word_23 rfl
theorem r188_26 : Sd gd_mt M188 26 (i_ild 3 27) := sd_iload_n dX8_word_26 rfl rfl
theorem r188_27 : Sd gd_mt M188 27 (i_aldI 31 28) := sd_iald dX8_word_27 rfl
theorem r188_28 : Sd gd_mt M188 28 (i_cS 189 1 31) := sd_cS2 e189 cal189 q1663 q1664 dX8_word_28 rfl
theorem r188_31 : Sd gd_mt M188 31 (i_msk [true, true, true, true] (i_ifeq 67 34)) := sd_msk _ (sd_ifeq dX8_word_31 (by decide) rfl)
theorem r188_34 : Sd gd_mt M188 34 (i_ild 2 35) := sd_iload_n dX8_word_34 rfl rfl
theorem r188_35 : Sd gd_mt M188 35 (i_psh (.int 6) 37) := sd_bipush dX8_word_35 (by decide) rfl
theorem r188_37 : Sd gd_mt M188 37 (i_icge 56 40) := sd_icge dX8_word_37 (by decide) rfl
theorem r188_40 : Sd gd_mt M188 40 (i_ild 1 41) := sd_iload_n dX8_word_40 rfl rfl
theorem r188_41 : Sd gd_mt M188 41 (i_psh (.int 5) 42) := sd_iconst dX8_word_41 (by decide) rfl
theorem r188_42 : Sd gd_mt M188 42 (i_ishl 43) := sd_ishl dX8_word_42 rfl
theorem r188_43 : Sd gd_mt M188 43 (i_ald 0 44) := sd_aload_n dX8_word_43 rfl rfl
theorem r188_44 : Sd gd_mt M188 44 (i_getR 8 9 47) := sd_getR ck8 (by decide) rfl (.inl q1463) dX8_word_44 rfl
theorem r188_47 : Sd gd_mt M188 47 (i_ild 3 48) := sd_iload_n dX8_word_47 rfl rfl
theorem r188_48 : Sd gd_mt M188 48 (i_aldI 31 49) := sd_iald dX8_word_48 rfl
theorem r188_49 : Sd gd_mt M188 49 (i_psh (.int 96) 51) := sd_bipush dX8_word_49 (by decide) rfl
theorem r188_51 : Sd gd_mt M188 51 (i_isub 52) := sd_isub dX8_word_51 rfl
theorem r188_52 : Sd gd_mt M188 52 (i_ior 53) := sd_ior dX8_word_52 rfl
theorem r188_53 : Sd gd_mt M188 53 (i_goto 57) := sd_goto dX8_word_53 (by decide)
theorem r188_56 : Sd gd_mt M188 56 (i_psh (.int 0) 57) := sd_iconst dX8_word_56 (by decide) rfl
theorem r188_57 : Sd gd_mt M188 57 (i_msk [true, false, true, true] (i_ist 1 58)) := sd_msk _ (sd_istore_n dX8_word_57 rfl (by decide) rfl)
theorem r188_58 : Sd gd_mt M188 58 (i_inc 2 1 61) := sd_iinc dX8_word_58 (by decide) (by decide) rfl
theorem r188_61 : Sd gd_mt M188 61 (i_inc 3 1 64) := sd_iinc dX8_word_61 (by decide) (by decide) rfl
theorem r188_64 : Sd gd_mt M188 64 (i_goto 14) := sd_goto dX8_word_64 (by decide)
theorem r188_67 : Sd gd_mt M188 67 (i_msk [false, true, true, false] (i_ild 2 68)) := sd_msk _ (sd_iload_n dX8_word_67 rfl rfl)
theorem r188_68 : Sd gd_mt M188 68 (i_psh (.int 6) 70) := sd_bipush dX8_word_68 (by decide) rfl
theorem r188_70 : Sd gd_mt M188 70 (i_icle 77 73) := sd_icle dX8_word_70 (by decide) rfl
theorem r188_73 : Sd gd_mt M188 73 (i_psh (.int 0) 74) := sd_iconst dX8_word_73 (by decide) rfl
theorem r188_74 : Sd gd_mt M188 74 (i_goto 78) := sd_goto dX8_word_74 (by decide)
theorem r188_77 : Sd gd_mt M188 77 (i_ild 1 78) := sd_iload_n dX8_word_77 rfl rfl
theorem r188_78 : Sd gd_mt M188 78 (i_msk [false, false, false, false] (i_iret)) := sd_msk _ (sd_iret rfl dX8_word_78)
def cl188_0 : List (Nat × gd_I) := [(0, i_ald 0 1), (1, i_cV 187 0 8 4), (4, i_msk [true, false, false, false] (i_pop 5)), (5, i_psh (.int 0) 6), (6, i_ist 1 7), (7, i_psh (.int 0) 8), (8, i_ist 2 9), (9, i_ald 0 10), (10, i_getI 8 4 13), (13, i_ist 3 14), (14, i_msk [true, true, true, true] (i_ild 3 15)), (15, i_ald 0 16), (16, i_getI 8 3 19), (19, i_icge 67 22), (22, i_ald 0 23), (23, i_getR 8 9 26), (26, i_ild 3 27), (27, i_aldI 31 28), (28, i_cS 189 1 31), (31, i_msk [true, true, true, true] (i_ifeq 67 34)), (34, i_ild 2 35), (35, i_psh (.int 6) 37), (37, i_icge 56 40), (40, i_ild 1 41), (41, i_psh (.int 5) 42), (42, i_ishl 43), (43, i_ald 0 44), (44, i_getR 8 9 47), (47, i_ild 3 48), (48, i_aldI 31 49), (49, i_psh (.int 96) 51), (51, i_isub 52), (52, i_ior 53), (53, i_goto 57), (56, i_psh (.int 0) 57), (57, i_msk [true, false, true, true] (i_ist 1 58)), (58, i_inc 2 1 61), (61, i_inc 3 1 64), (64, i_goto 14), (67, i_msk [false, true, true, false] (i_ild 2 68)), (68, i_psh (.int 6) 70), (70, i_icle 77 73), (73, i_psh (.int 0) 74), (74, i_goto 78), (77, i_ild 1 78), (78, i_msk [false, false, false, false] (i_iret))]
theorem cs188_0 : ∀ q ∈ cl188_0, Sd gd_mt M188 q.1 q.2 := gd_ac r188_0 (gd_ac r188_1 (gd_ac r188_4 (gd_ac r188_5 (gd_ac r188_6 (gd_ac r188_7 (gd_ac r188_8 (gd_ac r188_9 (gd_ac r188_10 (gd_ac r188_13 (gd_ac r188_14 (gd_ac r188_15 (gd_ac r188_16 (gd_ac r188_19 (gd_ac r188_22 (gd_ac r188_23 (gd_ac r188_26 (gd_ac r188_27 (gd_ac r188_28 (gd_ac r188_31 (gd_ac r188_34 (gd_ac r188_35 (gd_ac r188_37 (gd_ac r188_40 (gd_ac r188_41 (gd_ac r188_42 (gd_ac r188_43 (gd_ac r188_44 (gd_ac r188_47 (gd_ac r188_48 (gd_ac r188_49 (gd_ac r188_51 (gd_ac r188_52 (gd_ac r188_53 (gd_ac r188_56 (gd_ac r188_57 (gd_ac r188_58 (gd_ac r188_61 (gd_ac r188_64 (gd_ac r188_67 (gd_ac r188_68 (gd_ac r188_70 (gd_ac r188_73 (gd_ac r188_74 (gd_ac r188_77 (gd_ac r188_78 (gd_an))))))))))))))))))))))))))))))))))))))))))))))
def cd188 (pc : Nat) : gd_I := lkI cl188_0 pc
theorem cg188 : ∀ pc, Sd gd_mt M188 pc (cd188 pc) := sd_lk cs188_0
theorem r189_0 : Sd gd_mt M189 0 (i_ild 0 1) := sd_iload_n dX8_isSmall_0 rfl rfl
theorem r189_1 : Sd gd_mt M189 1 (i_psh (.int 97) 3) := sd_bipush dX8_isSmall_1 (by decide) rfl
theorem r189_3 : Sd gd_mt M189 3 (i_iclt 16 6) := sd_iclt dX8_isSmall_3 (by decide) rfl
theorem r189_6 : Sd gd_mt M189 6 (i_ild 0 7) := sd_iload_n dX8_isSmall_6 rfl rfl
theorem r189_7 : Sd gd_mt M189 7 (i_psh (.int 122) 9) := sd_bipush dX8_isSmall_7 (by decide) rfl
theorem r189_9 : Sd gd_mt M189 9 (i_icgt 16 12) := sd_icgt dX8_isSmall_9 (by decide) rfl
theorem r189_12 : Sd gd_mt M189 12 (i_psh (.int 1) 13) := sd_iconst dX8_isSmall_12 (by decide) rfl
theorem r189_13 : Sd gd_mt M189 13 (i_goto 17) := sd_goto dX8_isSmall_13 (by decide)
theorem r189_16 : Sd gd_mt M189 16 (i_msk [false] (i_psh (.int 0) 17)) := sd_msk _ (sd_iconst dX8_isSmall_16 (by decide) rfl)
theorem r189_17 : Sd gd_mt M189 17 (i_msk [false] (i_zret)) := sd_msk _ (sd_zret rfl dX8_isSmall_17)
def cl189_0 : List (Nat × gd_I) := [(0, i_ild 0 1), (1, i_psh (.int 97) 3), (3, i_iclt 16 6), (6, i_ild 0 7), (7, i_psh (.int 122) 9), (9, i_icgt 16 12), (12, i_psh (.int 1) 13), (13, i_goto 17), (16, i_msk [false] (i_psh (.int 0) 17)), (17, i_msk [false] (i_zret))]
theorem cs189_0 : ∀ q ∈ cl189_0, Sd gd_mt M189 q.1 q.2 := gd_ac r189_0 (gd_ac r189_1 (gd_ac r189_3 (gd_ac r189_6 (gd_ac r189_7 (gd_ac r189_9 (gd_ac r189_12 (gd_ac r189_13 (gd_ac r189_16 (gd_ac r189_17 (gd_an))))))))))
def cd189 (pc : Nat) : gd_I := lkI cl189_0 pc
theorem cg189 : ∀ pc, Sd gd_mt M189 pc (cd189 pc) := sd_lk cs189_0
theorem r190_0 : Sd gd_mt M190 0 (i_ild 0 1) := sd_iload_n dX8_isRow_0 rfl rfl
theorem r190_1 : Sd gd_mt M190 1 (i_psh (.ref 52) 3) := sd_ldcS (n := 52) dX8_isRow_1 (List.mem_of_getElem? (i := 22) rfl) (by decide) rfl
theorem r190_3 : Sd gd_mt M190 3 (i_cS 191 1 6) := sd_cS2 e191 cal191 q1670 q1671 dX8_isRow_3 rfl
theorem r190_6 : Sd gd_mt M190 6 (i_msk [true] (i_iceq 36 9)) := sd_msk _ (sd_iceq dX8_isRow_6 (by decide) rfl)
theorem r190_9 : Sd gd_mt M190 9 (i_ild 0 10) := sd_iload_n dX8_isRow_9 rfl rfl
theorem r190_10 : Sd gd_mt M190 10 (i_psh (.ref 54) 12) := sd_ldcS (n := 54) dX8_isRow_10 (List.mem_of_getElem? (i := 23) rfl) (by decide) rfl
theorem r190_12 : Sd gd_mt M190 12 (i_cS 191 1 15) := sd_cS2 e191 cal191 q1670 q1671 dX8_isRow_12 rfl
theorem r190_15 : Sd gd_mt M190 15 (i_msk [true] (i_iceq 36 18)) := sd_msk _ (sd_iceq dX8_isRow_15 (by decide) rfl)
theorem r190_18 : Sd gd_mt M190 18 (i_ild 0 19) := sd_iload_n dX8_isRow_18 rfl rfl
theorem r190_19 : Sd gd_mt M190 19 (i_psh (.ref 56) 21) := sd_ldcS (n := 56) dX8_isRow_19 (List.mem_of_getElem? (i := 24) rfl) (by decide) rfl
theorem r190_21 : Sd gd_mt M190 21 (i_cS 191 1 24) := sd_cS2 e191 cal191 q1670 q1671 dX8_isRow_21 rfl
theorem r190_24 : Sd gd_mt M190 24 (i_msk [true] (i_iceq 36 27)) := sd_msk _ (sd_iceq dX8_isRow_24 (by decide) rfl)
theorem r190_27 : Sd gd_mt M190 27 (i_ild 0 28) := sd_iload_n dX8_isRow_27 rfl rfl
theorem r190_28 : Sd gd_mt M190 28 (i_psh (.ref 58) 30) := sd_ldcS (n := 58) dX8_isRow_28 (List.mem_of_getElem? (i := 25) rfl) (by decide) rfl
theorem r190_30 : Sd gd_mt M190 30 (i_cS 191 1 33) := sd_cS2 e191 cal191 q1670 q1671 dX8_isRow_30 rfl
theorem r190_33 : Sd gd_mt M190 33 (i_msk [false] (i_icne 40 36)) := sd_msk _ (sd_icne dX8_isRow_33 (by decide) rfl)
theorem r190_36 : Sd gd_mt M190 36 (i_msk [false] (i_psh (.int 1) 37)) := sd_msk _ (sd_iconst dX8_isRow_36 (by decide) rfl)
theorem r190_37 : Sd gd_mt M190 37 (i_goto 41) := sd_goto dX8_isRow_37 (by decide)
theorem r190_40 : Sd gd_mt M190 40 (i_psh (.int 0) 41) := sd_iconst dX8_isRow_40 (by decide) rfl
theorem r190_41 : Sd gd_mt M190 41 (i_msk [false] (i_zret)) := sd_msk _ (sd_zret rfl dX8_isRow_41)
def cl190_0 : List (Nat × gd_I) := [(0, i_ild 0 1), (1, i_psh (.ref 52) 3), (3, i_cS 191 1 6), (6, i_msk [true] (i_iceq 36 9)), (9, i_ild 0 10), (10, i_psh (.ref 54) 12), (12, i_cS 191 1 15), (15, i_msk [true] (i_iceq 36 18)), (18, i_ild 0 19), (19, i_psh (.ref 56) 21), (21, i_cS 191 1 24), (24, i_msk [true] (i_iceq 36 27)), (27, i_ild 0 28), (28, i_psh (.ref 58) 30), (30, i_cS 191 1 33), (33, i_msk [false] (i_icne 40 36)), (36, i_msk [false] (i_psh (.int 1) 37)), (37, i_goto 41), (40, i_psh (.int 0) 41), (41, i_msk [false] (i_zret))]
theorem cs190_0 : ∀ q ∈ cl190_0, Sd gd_mt M190 q.1 q.2 := gd_ac r190_0 (gd_ac r190_1 (gd_ac r190_3 (gd_ac r190_6 (gd_ac r190_9 (gd_ac r190_10 (gd_ac r190_12 (gd_ac r190_15 (gd_ac r190_18 (gd_ac r190_19 (gd_ac r190_21 (gd_ac r190_24 (gd_ac r190_27 (gd_ac r190_28 (gd_ac r190_30 (gd_ac r190_33 (gd_ac r190_36 (gd_ac r190_37 (gd_ac r190_40 (gd_ac r190_41 (gd_an))))))))))))))))))))
def cd190 (pc : Nat) : gd_I := lkI cl190_0 pc
theorem cg190 : ∀ pc, Sd gd_mt M190 pc (cd190 pc) := sd_lk cs190_0
theorem r191_0 : Sd gd_mt M191 0 (i_psh (.int 0) 1) := sd_iconst dX8_of_0 (by decide) rfl
theorem r191_1 : Sd gd_mt M191 1 (i_ist 1 2) := sd_istore_n dX8_of_1 rfl (by decide) rfl
theorem r191_2 : Sd gd_mt M191 2 (i_psh (.int 0) 3) := sd_iconst dX8_of_2 (by decide) rfl
theorem r191_3 : Sd gd_mt M191 3 (i_ist 2 4) := sd_istore_n dX8_of_3 rfl (by decide) rfl
theorem r191_4 : Sd gd_mt M191 4 (i_msk [true, true, true] (i_ild 2 5)) := sd_msk _ (sd_iload_n dX8_of_4 rfl rfl)
theorem r191_5 : Sd gd_mt M191 5 (i_ald 0 6) := sd_aload_n dX8_of_5 rfl rfl
theorem r191_6 : Sd gd_mt M191 6 (i_cVs 5 0 9) := sd_cVs2 e5 cal5 q1673 q665 q666 dX8_of_6 rfl
theorem r191_9 : Sd gd_mt M191 9 (i_msk [true, true, true] (i_icge 31 12)) := sd_msk _ (sd_icge dX8_of_9 (by decide) rfl)
theorem r191_12 : Sd gd_mt M191 12 (i_ild 1 13) := sd_iload_n dX8_of_12 rfl rfl
theorem r191_13 : Sd gd_mt M191 13 (i_psh (.int 5) 14) := sd_iconst dX8_of_13 (by decide) rfl
theorem r191_14 : Sd gd_mt M191 14 (i_ishl 15) := sd_ishl dX8_of_14 rfl
theorem r191_15 : Sd gd_mt M191 15 (i_ald 0 16) := sd_aload_n dX8_of_15 rfl rfl
theorem r191_16 : Sd gd_mt M191 16 (i_ild 2 17) := sd_iload_n dX8_of_16 rfl rfl
theorem r191_17 : Sd gd_mt M191 17 (i_cVs 7 1 20) := sd_cVs2 e7 cal7 q1674 q675 q676 dX8_of_17 rfl
theorem r191_20 : Sd gd_mt M191 20 (i_msk [true, false, true] (i_psh (.int 96) 22)) := sd_msk _ (sd_bipush dX8_of_20 (by decide) rfl)
theorem r191_22 : Sd gd_mt M191 22 (i_isub 23) := sd_isub dX8_of_22 rfl
theorem r191_23 : Sd gd_mt M191 23 (i_ior 24) := sd_ior dX8_of_23 rfl
theorem r191_24 : Sd gd_mt M191 24 (i_ist 1 25) := sd_istore_n dX8_of_24 rfl (by decide) rfl
theorem r191_25 : Sd gd_mt M191 25 (i_inc 2 1 28) := sd_iinc dX8_of_25 (by decide) (by decide) rfl
theorem r191_28 : Sd gd_mt M191 28 (i_goto 4) := sd_goto dX8_of_28 (by decide)
theorem r191_31 : Sd gd_mt M191 31 (i_ild 1 32) := sd_iload_n dX8_of_31 rfl rfl
theorem r191_32 : Sd gd_mt M191 32 (i_iret) := sd_iret rfl dX8_of_32
def cl191_0 : List (Nat × gd_I) := [(0, i_psh (.int 0) 1), (1, i_ist 1 2), (2, i_psh (.int 0) 3), (3, i_ist 2 4), (4, i_msk [true, true, true] (i_ild 2 5)), (5, i_ald 0 6), (6, i_cVs 5 0 9), (9, i_msk [true, true, true] (i_icge 31 12)), (12, i_ild 1 13), (13, i_psh (.int 5) 14), (14, i_ishl 15), (15, i_ald 0 16), (16, i_ild 2 17), (17, i_cVs 7 1 20), (20, i_msk [true, false, true] (i_psh (.int 96) 22)), (22, i_isub 23), (23, i_ior 24), (24, i_ist 1 25), (25, i_inc 2 1 28), (28, i_goto 4), (31, i_ild 1 32), (32, i_iret)]
theorem cs191_0 : ∀ q ∈ cl191_0, Sd gd_mt M191 q.1 q.2 := gd_ac r191_0 (gd_ac r191_1 (gd_ac r191_2 (gd_ac r191_3 (gd_ac r191_4 (gd_ac r191_5 (gd_ac r191_6 (gd_ac r191_9 (gd_ac r191_12 (gd_ac r191_13 (gd_ac r191_14 (gd_ac r191_15 (gd_ac r191_16 (gd_ac r191_17 (gd_ac r191_20 (gd_ac r191_22 (gd_ac r191_23 (gd_ac r191_24 (gd_ac r191_25 (gd_ac r191_28 (gd_ac r191_31 (gd_ac r191_32 (gd_an))))))))))))))))))))))
def cd191 (pc : Nat) : gd_I := lkI cl191_0 pc
theorem cg191 : ∀ pc, Sd gd_mt M191 pc (cd191 pc) := sd_lk cs191_0
theorem r192_0 : Sd gd_mt M192 0 (i_ald 0 1) := sd_aload_n dX8_wrong_0 rfl rfl
theorem r192_1 : Sd gd_mt M192 1 (i_getI 8 5 4) := sd_getI ck8 (by decide) rfl (.inl q1459) dX8_wrong_1 rfl
theorem r192_4 : Sd gd_mt M192 4 (i_psh (.int (-1)) 5) := sd_iconst dX8_wrong_4 (by decide) rfl
theorem r192_5 : Sd gd_mt M192 5 (i_iceq 9 8) := sd_iceq dX8_wrong_5 (by decide) rfl
theorem r192_8 : Sd gd_mt M192 8 (i_ret) := sd_ret rfl dX8_wrong_8
theorem r192_9 : Sd gd_mt M192 9 (i_ald 0 10) := sd_aload_n dX8_wrong_9 rfl rfl
theorem r192_10 : Sd gd_mt M192 10 (i_ild 2 11) := sd_iload_n dX8_wrong_10 rfl rfl
theorem r192_11 : Sd gd_mt M192 11 (i_putI 8 5 14) := sd_putI ck8 (by decide) rfl (.inl q1459) (.inl rfl) dX8_wrong_11 rfl
theorem r192_14 : Sd gd_mt M192 14 (i_ald 0 15) := sd_aload_n dX8_wrong_14 rfl rfl
theorem r192_15 : Sd gd_mt M192 15 (i_ild 1 16) := sd_iload_n dX8_wrong_15 rfl rfl
theorem r192_16 : Sd gd_mt M192 16 (i_putI 8 6 19) := sd_putI ck8 (by decide) rfl (.inl q1460) (.inl rfl) dX8_wrong_16 rfl
theorem r192_19 : Sd gd_mt M192 19 (i_ret) := sd_ret rfl dX8_wrong_19
def cl192_0 : List (Nat × gd_I) := [(0, i_ald 0 1), (1, i_getI 8 5 4), (4, i_psh (.int (-1)) 5), (5, i_iceq 9 8), (8, i_ret), (9, i_ald 0 10), (10, i_ild 2 11), (11, i_putI 8 5 14), (14, i_ald 0 15), (15, i_ild 1 16), (16, i_putI 8 6 19), (19, i_ret)]
theorem cs192_0 : ∀ q ∈ cl192_0, Sd gd_mt M192 q.1 q.2 := gd_ac r192_0 (gd_ac r192_1 (gd_ac r192_4 (gd_ac r192_5 (gd_ac r192_8 (gd_ac r192_9 (gd_ac r192_10 (gd_ac r192_11 (gd_ac r192_14 (gd_ac r192_15 (gd_ac r192_16 (gd_ac r192_19 (gd_an))))))))))))
def cd192 (pc : Nat) : gd_I := lkI cl192_0 pc
theorem cg192 : ∀ pc, Sd gd_mt M192 pc (cd192 pc) := sd_lk cs192_0
theorem r193_0 : Sd gd_mt M193 0 (i_msk [true] (i_ald 0 1)) := sd_msk _ (sd_aload_n dX8_pass_0 rfl rfl)
theorem r193_1 : Sd gd_mt M193 1 (i_getI 8 4 4) := sd_getI ck8 (by decide) rfl (.inl q1458) dX8_pass_1 rfl
theorem r193_4 : Sd gd_mt M193 4 (i_ald 0 5) := sd_aload_n dX8_pass_4 rfl rfl
theorem r193_5 : Sd gd_mt M193 5 (i_getI 8 3 8) := sd_getI ck8 (by decide) rfl (.inl q1457) dX8_pass_5 rfl
theorem r193_8 : Sd gd_mt M193 8 (i_icge 39 11) := sd_icge dX8_pass_8 (by decide) rfl
theorem r193_11 : Sd gd_mt M193 11 (i_ald 0 12) := sd_aload_n dX8_pass_11 rfl rfl
theorem r193_12 : Sd gd_mt M193 12 (i_getR 8 9 15) := sd_getR ck8 (by decide) rfl (.inl q1463) dX8_pass_12 rfl
theorem r193_15 : Sd gd_mt M193 15 (i_ald 0 16) := sd_aload_n dX8_pass_15 rfl rfl
theorem r193_16 : Sd gd_mt M193 16 (i_getI 8 4 19) := sd_getI ck8 (by decide) rfl (.inl q1458) dX8_pass_16 rfl
theorem r193_19 : Sd gd_mt M193 19 (i_aldI 31 20) := sd_iald dX8_pass_19 rfl
theorem r193_20 : Sd gd_mt M193 20 (i_cS 189 1 23) := sd_cS2 e189 cal189 q1663 q1664 dX8_pass_20 rfl
theorem r193_23 : Sd gd_mt M193 23 (i_msk [true] (i_ifeq 39 26)) := sd_msk _ (sd_ifeq dX8_pass_23 (by decide) rfl)
theorem r193_26 : Sd gd_mt M193 26 (i_ald 0 27) := sd_aload_n dX8_pass_26 rfl rfl
theorem r193_27 : Sd gd_mt M193 27 (i_dup 28) := sd_dup dX8_pass_27 rfl
theorem r193_28 : Sd gd_mt M193 28 (i_getI 8 4 31) := sd_getI ck8 (by decide) rfl (.inl q1458) dX8_pass_28 rfl
theorem r193_31 : Sd gd_mt M193 31 (i_psh (.int 1) 32) := sd_iconst dX8_pass_31 (by decide) rfl
theorem r193_32 : Sd gd_mt M193 32 (i_iadd 33) := sd_iadd dX8_pass_32 rfl
theorem r193_33 : Sd gd_mt M193 33 (i_putI 8 4 36) := sd_putI ck8 (by decide) rfl (.inl q1458) (.inl rfl) dX8_pass_33 rfl
theorem r193_36 : Sd gd_mt M193 36 (i_goto 0) := sd_goto dX8_pass_36 (by decide)
theorem r193_39 : Sd gd_mt M193 39 (i_msk [false] (i_ret)) := sd_msk _ (sd_ret rfl dX8_pass_39)
def cl193_0 : List (Nat × gd_I) := [(0, i_msk [true] (i_ald 0 1)), (1, i_getI 8 4 4), (4, i_ald 0 5), (5, i_getI 8 3 8), (8, i_icge 39 11), (11, i_ald 0 12), (12, i_getR 8 9 15), (15, i_ald 0 16), (16, i_getI 8 4 19), (19, i_aldI 31 20), (20, i_cS 189 1 23), (23, i_msk [true] (i_ifeq 39 26)), (26, i_ald 0 27), (27, i_dup 28), (28, i_getI 8 4 31), (31, i_psh (.int 1) 32), (32, i_iadd 33), (33, i_putI 8 4 36), (36, i_goto 0), (39, i_msk [false] (i_ret))]
theorem cs193_0 : ∀ q ∈ cl193_0, Sd gd_mt M193 q.1 q.2 := gd_ac r193_0 (gd_ac r193_1 (gd_ac r193_4 (gd_ac r193_5 (gd_ac r193_8 (gd_ac r193_11 (gd_ac r193_12 (gd_ac r193_15 (gd_ac r193_16 (gd_ac r193_19 (gd_ac r193_20 (gd_ac r193_23 (gd_ac r193_26 (gd_ac r193_27 (gd_ac r193_28 (gd_ac r193_31 (gd_ac r193_32 (gd_ac r193_33 (gd_ac r193_36 (gd_ac r193_39 (gd_an))))))))))))))))))))
def cd193 (pc : Nat) : gd_I := lkI cl193_0 pc
theorem cg193 : ∀ pc, Sd gd_mt M193 pc (cd193 pc) := sd_lk cs193_0
theorem r194_0 : Sd gd_mt M194 0 (i_ild 1 1) := sd_iload_n dX8_readRow_0 rfl rfl
theorem r194_1 : Sd gd_mt M194 1 (i_psh (.ref 52) 3) := sd_ldcS (n := 52) dX8_readRow_1 (List.mem_of_getElem? (i := 22) rfl) (by decide) rfl
theorem r194_3 : Sd gd_mt M194 3 (i_cS 191 1 6) := sd_cS2 e191 cal191 q1670 q1671 dX8_readRow_3 rfl
theorem r194_6 : Sd gd_mt M194 6 (i_msk [true, true, false, false] (i_icne 60 9)) := sd_msk _ (sd_icne dX8_readRow_6 (by decide) rfl)
theorem r194_9 : Sd gd_mt M194 9 (i_ald 0 10) := sd_aload_n dX8_readRow_9 rfl rfl
theorem r194_10 : Sd gd_mt M194 10 (i_getR 8 10 13) := sd_getR ck8 (by decide) rfl (.inl q1464) dX8_readRow_10 rfl
theorem r194_13 : Sd gd_mt M194 13 (i_psh (.int 2) 14) := sd_iconst dX8_readRow_13 (by decide) rfl
theorem r194_14 : Sd gd_mt M194 14 (i_ald 0 15) := sd_aload_n dX8_readRow_14 rfl rfl
theorem r194_15 : Sd gd_mt M194 15 (i_getI 8 18 18) := sd_getI ck8 (by decide) rfl (.inl q1472) dX8_readRow_15 rfl
theorem r194_18 : Sd gd_mt M194 18 (i_imul 19) := sd_imul dX8_readRow_18 rfl
theorem r194_19 : Sd gd_mt M194 19 (i_ald 0 20) := sd_aload_n dX8_readRow_19 rfl rfl
theorem r194_20 : Sd gd_mt M194 20 (i_psh (.int 1) 21) := sd_iconst dX8_readRow_20 (by decide) rfl
theorem r194_21 : Sd gd_mt M194 21 (i_psh (.int 60) 23) := sd_bipush dX8_readRow_21 (by decide) rfl
theorem r194_23 : Sd gd_mt M194 23 (i_cV 195 2 8 26) := sd_cV2 e195 cal195 q1690 q1692 (rfl : gd_cl 8 = some _) qs39 dX8_readRow_23 rfl
theorem r194_26 : Sd gd_mt M194 26 (i_msk [true, false, false, false] (i_astI 27)) := sd_msk _ (sd_astI dX8_readRow_26 rfl)
theorem r194_27 : Sd gd_mt M194 27 (i_ald 0 28) := sd_aload_n dX8_readRow_27 rfl rfl
theorem r194_28 : Sd gd_mt M194 28 (i_getR 8 10 31) := sd_getR ck8 (by decide) rfl (.inl q1464) dX8_readRow_28 rfl
theorem r194_31 : Sd gd_mt M194 31 (i_psh (.int 2) 32) := sd_iconst dX8_readRow_31 (by decide) rfl
theorem r194_32 : Sd gd_mt M194 32 (i_ald 0 33) := sd_aload_n dX8_readRow_32 rfl rfl
theorem r194_33 : Sd gd_mt M194 33 (i_getI 8 18 36) := sd_getI ck8 (by decide) rfl (.inl q1472) dX8_readRow_33 rfl
theorem r194_36 : Sd gd_mt M194 36 (i_imul 37) := sd_imul dX8_readRow_36 rfl
theorem r194_37 : Sd gd_mt M194 37 (i_psh (.int 1) 38) := sd_iconst dX8_readRow_37 (by decide) rfl
theorem r194_38 : Sd gd_mt M194 38 (i_iadd 39) := sd_iadd dX8_readRow_38 rfl
theorem r194_39 : Sd gd_mt M194 39 (i_ald 0 40) := sd_aload_n dX8_readRow_39 rfl rfl
theorem r194_40 : Sd gd_mt M194 40 (i_psh (.int 0) 41) := sd_iconst dX8_readRow_40 (by decide) rfl
theorem r194_41 : Sd gd_mt M194 41 (i_psh (.int 9) 43) := sd_bipush dX8_readRow_41 (by decide) rfl
theorem r194_43 : Sd gd_mt M194 43 (i_cV 195 2 8 46) := sd_cV2 e195 cal195 q1690 q1692 (rfl : gd_cl 8 = some _) qs39 dX8_readRow_43 rfl
theorem r194_46 : Sd gd_mt M194 46 (i_msk [true, false, false, false] (i_astI 47)) := sd_msk _ (sd_astI dX8_readRow_46 rfl)
theorem r194_47 : Sd gd_mt M194 47 (i_ald 0 48) := sd_aload_n dX8_readRow_47 rfl rfl
theorem r194_48 : Sd gd_mt M194 48 (i_dup 49) := sd_dup dX8_readRow_48 rfl
theorem r194_49 : Sd gd_mt M194 49 (i_getI 8 18 52) := sd_getI ck8 (by decide) rfl (.inl q1472) dX8_readRow_49 rfl
theorem r194_52 : Sd gd_mt M194 52 (i_psh (.int 1) 53) := sd_iconst dX8_readRow_52 (by decide) rfl
theorem r194_53 : Sd gd_mt M194 53 (i_iadd 54) := sd_iadd dX8_readRow_53 rfl
theorem r194_54 : Sd gd_mt M194 54 (i_putI 8 18 57) := sd_putI ck8 (by decide) rfl (.inl q1472) (.inl rfl) dX8_readRow_54 rfl
theorem r194_57 : Sd gd_mt M194 57 (i_goto 167) := sd_goto dX8_readRow_57 (by decide)
theorem r194_60 : Sd gd_mt M194 60 (i_ild 1 61) := sd_iload_n dX8_readRow_60 rfl rfl
theorem r194_61 : Sd gd_mt M194 61 (i_psh (.ref 54) 63) := sd_ldcS (n := 54) dX8_readRow_61 (List.mem_of_getElem? (i := 23) rfl) (by decide) rfl
theorem r194_63 : Sd gd_mt M194 63 (i_cS 191 1 66) := sd_cS2 e191 cal191 q1670 q1671 dX8_readRow_63 rfl
theorem r194_66 : Sd gd_mt M194 66 (i_msk [true, true, false, false] (i_icne 121 69)) := sd_msk _ (sd_icne dX8_readRow_66 (by decide) rfl)
theorem r194_69 : Sd gd_mt M194 69 (i_ald 0 70) := sd_aload_n dX8_readRow_69 rfl rfl
theorem r194_70 : Sd gd_mt M194 70 (i_getR 8 11 73) := sd_getR ck8 (by decide) rfl (.inl q1465) dX8_readRow_70 rfl
theorem r194_73 : Sd gd_mt M194 73 (i_psh (.int 2) 74) := sd_iconst dX8_readRow_73 (by decide) rfl
theorem r194_74 : Sd gd_mt M194 74 (i_ald 0 75) := sd_aload_n dX8_readRow_74 rfl rfl
theorem r194_75 : Sd gd_mt M194 75 (i_getI 8 19 78) := sd_getI ck8 (by decide) rfl (.inl q1473) dX8_readRow_75 rfl
theorem r194_78 : Sd gd_mt M194 78 (i_imul 79) := sd_imul dX8_readRow_78 rfl
theorem r194_79 : Sd gd_mt M194 79 (i_ald 0 80) := sd_aload_n dX8_readRow_79 rfl rfl
theorem r194_80 : Sd gd_mt M194 80 (i_psh (.int 1) 81) := sd_iconst dX8_readRow_80 (by decide) rfl
theorem r194_81 : Sd gd_mt M194 81 (i_psh (.int 200) 84) := sd_sipush dX8_readRow_81 (by decide) rfl
def cl194_0 : List (Nat × gd_I) := [(0, i_ild 1 1), (1, i_psh (.ref 52) 3), (3, i_cS 191 1 6), (6, i_msk [true, true, false, false] (i_icne 60 9)), (9, i_ald 0 10), (10, i_getR 8 10 13), (13, i_psh (.int 2) 14), (14, i_ald 0 15), (15, i_getI 8 18 18), (18, i_imul 19), (19, i_ald 0 20), (20, i_psh (.int 1) 21), (21, i_psh (.int 60) 23), (23, i_cV 195 2 8 26), (26, i_msk [true, false, false, false] (i_astI 27)), (27, i_ald 0 28), (28, i_getR 8 10 31), (31, i_psh (.int 2) 32), (32, i_ald 0 33), (33, i_getI 8 18 36), (36, i_imul 37), (37, i_psh (.int 1) 38), (38, i_iadd 39), (39, i_ald 0 40), (40, i_psh (.int 0) 41), (41, i_psh (.int 9) 43), (43, i_cV 195 2 8 46), (46, i_msk [true, false, false, false] (i_astI 47)), (47, i_ald 0 48), (48, i_dup 49), (49, i_getI 8 18 52), (52, i_psh (.int 1) 53), (53, i_iadd 54), (54, i_putI 8 18 57), (57, i_goto 167), (60, i_ild 1 61), (61, i_psh (.ref 54) 63), (63, i_cS 191 1 66), (66, i_msk [true, true, false, false] (i_icne 121 69)), (69, i_ald 0 70), (70, i_getR 8 11 73), (73, i_psh (.int 2) 74), (74, i_ald 0 75), (75, i_getI 8 19 78), (78, i_imul 79), (79, i_ald 0 80), (80, i_psh (.int 1) 81), (81, i_psh (.int 200) 84)]
theorem cs194_0 : ∀ q ∈ cl194_0, Sd gd_mt M194 q.1 q.2 := gd_ac r194_0 (gd_ac r194_1 (gd_ac r194_3 (gd_ac r194_6 (gd_ac r194_9 (gd_ac r194_10 (gd_ac r194_13 (gd_ac r194_14 (gd_ac r194_15 (gd_ac r194_18 (gd_ac r194_19 (gd_ac r194_20 (gd_ac r194_21 (gd_ac r194_23 (gd_ac r194_26 (gd_ac r194_27 (gd_ac r194_28 (gd_ac r194_31 (gd_ac r194_32 (gd_ac r194_33 (gd_ac r194_36 (gd_ac r194_37 (gd_ac r194_38 (gd_ac r194_39 (gd_ac r194_40 (gd_ac r194_41 (gd_ac r194_43 (gd_ac r194_46 (gd_ac r194_47 (gd_ac r194_48 (gd_ac r194_49 (gd_ac r194_52 (gd_ac r194_53 (gd_ac r194_54 (gd_ac r194_57 (gd_ac r194_60 (gd_ac r194_61 (gd_ac r194_63 (gd_ac r194_66 (gd_ac r194_69 (gd_ac r194_70 (gd_ac r194_73 (gd_ac r194_74 (gd_ac r194_75 (gd_ac r194_78 (gd_ac r194_79 (gd_ac r194_80 (gd_ac r194_81 (gd_an))))))))))))))))))))))))))))))))))))))))))))))))
theorem r194_84 : Sd gd_mt M194 84 (i_cV 195 2 8 87) := sd_cV2 e195 cal195 q1690 q1692 (rfl : gd_cl 8 = some _) qs39 dX8_readRow_84 rfl
theorem r194_87 : Sd gd_mt M194 87 (i_msk [true, false, false, false] (i_astI 88)) := sd_msk _ (sd_astI dX8_readRow_87 rfl)
theorem r194_88 : Sd gd_mt M194 88 (i_ald 0 89) := sd_aload_n dX8_readRow_88 rfl rfl
theorem r194_89 : Sd gd_mt M194 89 (i_getR 8 11 92) := sd_getR ck8 (by decide) rfl (.inl q1465) dX8_readRow_89 rfl
theorem r194_92 : Sd gd_mt M194 92 (i_psh (.int 2) 93) := sd_iconst dX8_readRow_92 (by decide) rfl
theorem r194_93 : Sd gd_mt M194 93 (i_ald 0 94) := sd_aload_n dX8_readRow_93 rfl rfl
theorem r194_94 : Sd gd_mt M194 94 (i_getI 8 19 97) := sd_getI ck8 (by decide) rfl (.inl q1473) dX8_readRow_94 rfl
theorem r194_97 : Sd gd_mt M194 97 (i_imul 98) := sd_imul dX8_readRow_97 rfl
theorem r194_98 : Sd gd_mt M194 98 (i_psh (.int 1) 99) := sd_iconst dX8_readRow_98 (by decide) rfl
theorem r194_99 : Sd gd_mt M194 99 (i_iadd 100) := sd_iadd dX8_readRow_99 rfl
theorem r194_100 : Sd gd_mt M194 100 (i_ald 0 101) := sd_aload_n dX8_readRow_100 rfl rfl
theorem r194_101 : Sd gd_mt M194 101 (i_psh (.int 0) 102) := sd_iconst dX8_readRow_101 (by decide) rfl
theorem r194_102 : Sd gd_mt M194 102 (i_psh (.int 9) 104) := sd_bipush dX8_readRow_102 (by decide) rfl
theorem r194_104 : Sd gd_mt M194 104 (i_cV 195 2 8 107) := sd_cV2 e195 cal195 q1690 q1692 (rfl : gd_cl 8 = some _) qs39 dX8_readRow_104 rfl
theorem r194_107 : Sd gd_mt M194 107 (i_msk [true, false, false, false] (i_astI 108)) := sd_msk _ (sd_astI dX8_readRow_107 rfl)
theorem r194_108 : Sd gd_mt M194 108 (i_ald 0 109) := sd_aload_n dX8_readRow_108 rfl rfl
theorem r194_109 : Sd gd_mt M194 109 (i_dup 110) := sd_dup dX8_readRow_109 rfl
theorem r194_110 : Sd gd_mt M194 110 (i_getI 8 19 113) := sd_getI ck8 (by decide) rfl (.inl q1473) dX8_readRow_110 rfl
theorem r194_113 : Sd gd_mt M194 113 (i_psh (.int 1) 114) := sd_iconst dX8_readRow_113 (by decide) rfl
theorem r194_114 : Sd gd_mt M194 114 (i_iadd 115) := sd_iadd dX8_readRow_114 rfl
theorem r194_115 : Sd gd_mt M194 115 (i_putI 8 19 118) := sd_putI ck8 (by decide) rfl (.inl q1473) (.inl rfl) dX8_readRow_115 rfl
theorem r194_118 : Sd gd_mt M194 118 (i_goto 167) := sd_goto dX8_readRow_118 (by decide)
theorem r194_121 : Sd gd_mt M194 121 (i_ild 1 122) := sd_iload_n dX8_readRow_121 rfl rfl
theorem r194_122 : Sd gd_mt M194 122 (i_psh (.ref 56) 124) := sd_ldcS (n := 56) dX8_readRow_122 (List.mem_of_getElem? (i := 24) rfl) (by decide) rfl
theorem r194_124 : Sd gd_mt M194 124 (i_cS 191 1 127) := sd_cS2 e191 cal191 q1670 q1671 dX8_readRow_124 rfl
theorem r194_127 : Sd gd_mt M194 127 (i_msk [true, false, false, false] (i_icne 137 130)) := sd_msk _ (sd_icne dX8_readRow_127 (by decide) rfl)
theorem r194_130 : Sd gd_mt M194 130 (i_ald 0 131) := sd_aload_n dX8_readRow_130 rfl rfl
theorem r194_131 : Sd gd_mt M194 131 (i_cV 197 0 8 134) := sd_cV2 e197 cal197 q1697 q1699 (rfl : gd_cl 8 = some _) qs40 dX8_readRow_131 rfl
theorem r194_134 : Sd gd_mt M194 134 (i_msk [false, false, false, false] (i_goto 167)) := sd_msk _ (sd_goto dX8_readRow_134 (by decide))
theorem r194_137 : Sd gd_mt M194 137 (i_ald 0 138) := sd_aload_n dX8_readRow_137 rfl rfl
theorem r194_138 : Sd gd_mt M194 138 (i_psh (.int 0) 139) := sd_iconst dX8_readRow_138 (by decide) rfl
theorem r194_139 : Sd gd_mt M194 139 (i_psh (.int 11) 141) := sd_bipush dX8_readRow_139 (by decide) rfl
theorem r194_141 : Sd gd_mt M194 141 (i_cV 195 2 8 144) := sd_cV2 e195 cal195 q1690 q1692 (rfl : gd_cl 8 = some _) qs39 dX8_readRow_141 rfl
theorem r194_144 : Sd gd_mt M194 144 (i_msk [true, false, false, false] (i_ist 2 145)) := sd_msk _ (sd_istore_n dX8_readRow_144 rfl (by decide) rfl)
theorem r194_145 : Sd gd_mt M194 145 (i_ald 0 146) := sd_aload_n dX8_readRow_145 rfl rfl
theorem r194_146 : Sd gd_mt M194 146 (i_psh (.int 0) 147) := sd_iconst dX8_readRow_146 (by decide) rfl
theorem r194_147 : Sd gd_mt M194 147 (i_psh (.int 9) 149) := sd_bipush dX8_readRow_147 (by decide) rfl
theorem r194_149 : Sd gd_mt M194 149 (i_cV 195 2 8 152) := sd_cV2 e195 cal195 q1690 q1692 (rfl : gd_cl 8 = some _) qs39 dX8_readRow_149 rfl
theorem r194_152 : Sd gd_mt M194 152 (i_msk [true, false, true, false] (i_ist 3 153)) := sd_msk _ (sd_istore_n dX8_readRow_152 rfl (by decide) rfl)
theorem r194_153 : Sd gd_mt M194 153 (i_ald 0 154) := sd_aload_n dX8_readRow_153 rfl rfl
theorem r194_154 : Sd gd_mt M194 154 (i_cV 185 0 8 157) := sd_cV2 e185 cal185 q1647 q1649 (rfl : gd_cl 8 = some _) qs32 dX8_readRow_154 rfl
theorem r194_157 : Sd gd_mt M194 157 (i_msk [true, false, true, true] (i_ifeq 167 160)) := sd_msk _ (sd_ifeq dX8_readRow_157 (by decide) rfl)
theorem r194_160 : Sd gd_mt M194 160 (i_ald 0 161) := sd_aload_n dX8_readRow_160 rfl rfl
theorem r194_161 : Sd gd_mt M194 161 (i_getR 8 13 164) := sd_getR ck8 (by decide) rfl (.inl q1467) dX8_readRow_161 rfl
theorem r194_164 : Sd gd_mt M194 164 (i_ild 2 165) := sd_iload_n dX8_readRow_164 rfl rfl
theorem r194_165 : Sd gd_mt M194 165 (i_ild 3 166) := sd_iload_n dX8_readRow_165 rfl rfl
theorem r194_166 : Sd gd_mt M194 166 (i_astI 167) := sd_astI dX8_readRow_166 rfl
theorem r194_167 : Sd gd_mt M194 167 (i_msk [false, false, false, false] (i_ret)) := sd_msk _ (sd_ret rfl dX8_readRow_167)
def cl194_1 : List (Nat × gd_I) := [(84, i_cV 195 2 8 87), (87, i_msk [true, false, false, false] (i_astI 88)), (88, i_ald 0 89), (89, i_getR 8 11 92), (92, i_psh (.int 2) 93), (93, i_ald 0 94), (94, i_getI 8 19 97), (97, i_imul 98), (98, i_psh (.int 1) 99), (99, i_iadd 100), (100, i_ald 0 101), (101, i_psh (.int 0) 102), (102, i_psh (.int 9) 104), (104, i_cV 195 2 8 107), (107, i_msk [true, false, false, false] (i_astI 108)), (108, i_ald 0 109), (109, i_dup 110), (110, i_getI 8 19 113), (113, i_psh (.int 1) 114), (114, i_iadd 115), (115, i_putI 8 19 118), (118, i_goto 167), (121, i_ild 1 122), (122, i_psh (.ref 56) 124), (124, i_cS 191 1 127), (127, i_msk [true, false, false, false] (i_icne 137 130)), (130, i_ald 0 131), (131, i_cV 197 0 8 134), (134, i_msk [false, false, false, false] (i_goto 167)), (137, i_ald 0 138), (138, i_psh (.int 0) 139), (139, i_psh (.int 11) 141), (141, i_cV 195 2 8 144), (144, i_msk [true, false, false, false] (i_ist 2 145)), (145, i_ald 0 146), (146, i_psh (.int 0) 147), (147, i_psh (.int 9) 149), (149, i_cV 195 2 8 152), (152, i_msk [true, false, true, false] (i_ist 3 153)), (153, i_ald 0 154), (154, i_cV 185 0 8 157), (157, i_msk [true, false, true, true] (i_ifeq 167 160)), (160, i_ald 0 161), (161, i_getR 8 13 164), (164, i_ild 2 165), (165, i_ild 3 166), (166, i_astI 167), (167, i_msk [false, false, false, false] (i_ret))]
theorem cs194_1 : ∀ q ∈ cl194_1, Sd gd_mt M194 q.1 q.2 := gd_ac r194_84 (gd_ac r194_87 (gd_ac r194_88 (gd_ac r194_89 (gd_ac r194_92 (gd_ac r194_93 (gd_ac r194_94 (gd_ac r194_97 (gd_ac r194_98 (gd_ac r194_99 (gd_ac r194_100 (gd_ac r194_101 (gd_ac r194_102 (gd_ac r194_104 (gd_ac r194_107 (gd_ac r194_108 (gd_ac r194_109 (gd_ac r194_110 (gd_ac r194_113 (gd_ac r194_114 (gd_ac r194_115 (gd_ac r194_118 (gd_ac r194_121 (gd_ac r194_122 (gd_ac r194_124 (gd_ac r194_127 (gd_ac r194_130 (gd_ac r194_131 (gd_ac r194_134 (gd_ac r194_137 (gd_ac r194_138 (gd_ac r194_139 (gd_ac r194_141 (gd_ac r194_144 (gd_ac r194_145 (gd_ac r194_146 (gd_ac r194_147 (gd_ac r194_149 (gd_ac r194_152 (gd_ac r194_153 (gd_ac r194_154 (gd_ac r194_157 (gd_ac r194_160 (gd_ac r194_161 (gd_ac r194_164 (gd_ac r194_165 (gd_ac r194_166 (gd_ac r194_167 (gd_an))))))))))))))))))))))))))))))))))))))))))))))))
def cd194 (pc : Nat) : gd_I := if pc < 84 then lkI cl194_0 pc else lkI cl194_1 pc
theorem cg194 : ∀ pc, Sd gd_mt M194 pc (cd194 pc) := by
  intro pc
  unfold cd194
  by_cases h0 : pc < 84
  · rw [if_pos h0]; exact sd_lk cs194_0 pc
  rw [if_neg h0]
  exact sd_lk cs194_1 pc
theorem r195_0 : Sd gd_mt M195 0 (i_ald 0 1) := sd_aload_n dX8_readNumber_0 rfl rfl
theorem r195_1 : Sd gd_mt M195 1 (i_cV 185 0 8 4) := sd_cV2 e185 cal185 q1647 q1649 (rfl : gd_cl 8 = some _) qs32 dX8_readNumber_1 rfl
theorem r195_4 : Sd gd_mt M195 4 (i_msk [true, true, true, false, false, false] (i_ifne 9 7)) := sd_msk _ (sd_ifne dX8_readNumber_4 (by decide) rfl)
theorem r195_7 : Sd gd_mt M195 7 (i_psh (.int 0) 8) := sd_iconst dX8_readNumber_7 (by decide) rfl
theorem r195_8 : Sd gd_mt M195 8 (i_iret) := sd_iret rfl dX8_readNumber_8
theorem r195_9 : Sd gd_mt M195 9 (i_ald 0 10) := sd_aload_n dX8_readNumber_9 rfl rfl
theorem r195_10 : Sd gd_mt M195 10 (i_cV 187 0 8 13) := sd_cV2 e187 cal187 q1655 q1657 (rfl : gd_cl 8 = some _) qs34 dX8_readNumber_10 rfl
theorem r195_13 : Sd gd_mt M195 13 (i_msk [true, true, true, false, false, false] (i_ist 3 14)) := sd_msk _ (sd_istore_n dX8_readNumber_13 rfl (by decide) rfl)
theorem r195_14 : Sd gd_mt M195 14 (i_ald 0 15) := sd_aload_n dX8_readNumber_14 rfl rfl
theorem r195_15 : Sd gd_mt M195 15 (i_getI 8 4 18) := sd_getI ck8 (by decide) rfl (.inl q1458) dX8_readNumber_15 rfl
theorem r195_18 : Sd gd_mt M195 18 (i_ist 4 20) := sd_istore dX8_readNumber_18 (by decide) rfl
theorem r195_20 : Sd gd_mt M195 20 (i_psh (.int 0) 21) := sd_iconst dX8_readNumber_20 (by decide) rfl
theorem r195_21 : Sd gd_mt M195 21 (i_ist 5 23) := sd_istore dX8_readNumber_21 (by decide) rfl
theorem r195_23 : Sd gd_mt M195 23 (i_ild 3 24) := sd_iload_n dX8_readNumber_23 rfl rfl
theorem r195_24 : Sd gd_mt M195 24 (i_cS 196 1 27) := sd_cS2 e196 cal196 q1694 q1695 dX8_readNumber_24 rfl
theorem r195_27 : Sd gd_mt M195 27 (i_msk [true, true, true, false, true, true] (i_ifne 41 30)) := sd_msk _ (sd_ifne dX8_readNumber_27 (by decide) rfl)
theorem r195_30 : Sd gd_mt M195 30 (i_ald 0 31) := sd_aload_n dX8_readNumber_30 rfl rfl
theorem r195_31 : Sd gd_mt M195 31 (i_psh (.int 1) 32) := sd_iconst dX8_readNumber_31 (by decide) rfl
theorem r195_32 : Sd gd_mt M195 32 (i_ald 0 33) := sd_aload_n dX8_readNumber_32 rfl rfl
theorem r195_33 : Sd gd_mt M195 33 (i_getI 8 4 36) := sd_getI ck8 (by decide) rfl (.inl q1458) dX8_readNumber_33 rfl
theorem r195_36 : Sd gd_mt M195 36 (i_cV 192 2 8 39) := sd_cV2 e192 cal192 q1678 q1680 (rfl : gd_cl 8 = some _) qs36 dX8_readNumber_36 rfl
theorem r195_39 : Sd gd_mt M195 39 (i_msk [false, false, false, false, false, false] (i_psh (.int 0) 40)) := sd_msk _ (sd_iconst dX8_readNumber_39 (by decide) rfl)
theorem r195_40 : Sd gd_mt M195 40 (i_iret) := sd_iret rfl dX8_readNumber_40
theorem r195_41 : Sd gd_mt M195 41 (i_msk [true, true, true, false, true, true] (i_ald 0 42)) := sd_msk _ (sd_aload_n dX8_readNumber_41 rfl rfl)
theorem r195_42 : Sd gd_mt M195 42 (i_getI 8 4 45) := sd_getI ck8 (by decide) rfl (.inl q1458) dX8_readNumber_42 rfl
theorem r195_45 : Sd gd_mt M195 45 (i_ald 0 46) := sd_aload_n dX8_readNumber_45 rfl rfl
theorem r195_46 : Sd gd_mt M195 46 (i_getI 8 3 49) := sd_getI ck8 (by decide) rfl (.inl q1457) dX8_readNumber_46 rfl
theorem r195_49 : Sd gd_mt M195 49 (i_icge 114 52) := sd_icge dX8_readNumber_49 (by decide) rfl
theorem r195_52 : Sd gd_mt M195 52 (i_ald 0 53) := sd_aload_n dX8_readNumber_52 rfl rfl
theorem r195_53 : Sd gd_mt M195 53 (i_getR 8 9 56) := sd_getR ck8 (by decide) rfl (.inl q1463) dX8_readNumber_53 rfl
theorem r195_56 : Sd gd_mt M195 56 (i_ald 0 57) := sd_aload_n dX8_readNumber_56 rfl rfl
theorem r195_57 : Sd gd_mt M195 57 (i_getI 8 4 60) := sd_getI ck8 (by decide) rfl (.inl q1458) dX8_readNumber_57 rfl
theorem r195_60 : Sd gd_mt M195 60 (i_aldI 31 61) := sd_iald dX8_readNumber_60 rfl
theorem r195_61 : Sd gd_mt M195 61 (i_cS 196 1 64) := sd_cS2 e196 cal196 q1694 q1695 dX8_readNumber_61 rfl
theorem r195_64 : Sd gd_mt M195 64 (i_msk [true, true, true, false, true, true] (i_ifeq 114 67)) := sd_msk _ (sd_ifeq dX8_readNumber_64 (by decide) rfl)
theorem r195_67 : Sd gd_mt M195 67 (i_ild 5 69) := sd_iload dX8_readNumber_67 rfl
theorem r195_69 : Sd gd_mt M195 69 (i_psh (.int 9999) 72) := sd_sipush dX8_readNumber_69 (by decide) rfl
theorem r195_72 : Sd gd_mt M195 72 (i_icle 81 75) := sd_icle dX8_readNumber_72 (by decide) rfl
theorem r195_75 : Sd gd_mt M195 75 (i_psh (.int 10000) 78) := sd_sipush dX8_readNumber_75 (by decide) rfl
theorem r195_78 : Sd gd_mt M195 78 (i_goto 99) := sd_goto dX8_readNumber_78 (by decide)
theorem r195_81 : Sd gd_mt M195 81 (i_psh (.int 10) 83) := sd_bipush dX8_readNumber_81 (by decide) rfl
theorem r195_83 : Sd gd_mt M195 83 (i_ild 5 85) := sd_iload dX8_readNumber_83 rfl
theorem r195_85 : Sd gd_mt M195 85 (i_imul 86) := sd_imul dX8_readNumber_85 rfl
theorem r195_86 : Sd gd_mt M195 86 (i_ald 0 87) := sd_aload_n dX8_readNumber_86 rfl rfl
theorem r195_87 : Sd gd_mt M195 87 (i_getR 8 9 90) := sd_getR ck8 (by decide) rfl (.inl q1463) dX8_readNumber_87 rfl
theorem r195_90 : Sd gd_mt M195 90 (i_ald 0 91) := sd_aload_n dX8_readNumber_90 rfl rfl
theorem r195_91 : Sd gd_mt M195 91 (i_getI 8 4 94) := sd_getI ck8 (by decide) rfl (.inl q1458) dX8_readNumber_91 rfl
theorem r195_94 : Sd gd_mt M195 94 (i_aldI 31 95) := sd_iald dX8_readNumber_94 rfl
def cl195_0 : List (Nat × gd_I) := [(0, i_ald 0 1), (1, i_cV 185 0 8 4), (4, i_msk [true, true, true, false, false, false] (i_ifne 9 7)), (7, i_psh (.int 0) 8), (8, i_iret), (9, i_ald 0 10), (10, i_cV 187 0 8 13), (13, i_msk [true, true, true, false, false, false] (i_ist 3 14)), (14, i_ald 0 15), (15, i_getI 8 4 18), (18, i_ist 4 20), (20, i_psh (.int 0) 21), (21, i_ist 5 23), (23, i_ild 3 24), (24, i_cS 196 1 27), (27, i_msk [true, true, true, false, true, true] (i_ifne 41 30)), (30, i_ald 0 31), (31, i_psh (.int 1) 32), (32, i_ald 0 33), (33, i_getI 8 4 36), (36, i_cV 192 2 8 39), (39, i_msk [false, false, false, false, false, false] (i_psh (.int 0) 40)), (40, i_iret), (41, i_msk [true, true, true, false, true, true] (i_ald 0 42)), (42, i_getI 8 4 45), (45, i_ald 0 46), (46, i_getI 8 3 49), (49, i_icge 114 52), (52, i_ald 0 53), (53, i_getR 8 9 56), (56, i_ald 0 57), (57, i_getI 8 4 60), (60, i_aldI 31 61), (61, i_cS 196 1 64), (64, i_msk [true, true, true, false, true, true] (i_ifeq 114 67)), (67, i_ild 5 69), (69, i_psh (.int 9999) 72), (72, i_icle 81 75), (75, i_psh (.int 10000) 78), (78, i_goto 99), (81, i_psh (.int 10) 83), (83, i_ild 5 85), (85, i_imul 86), (86, i_ald 0 87), (87, i_getR 8 9 90), (90, i_ald 0 91), (91, i_getI 8 4 94), (94, i_aldI 31 95)]
theorem cs195_0 : ∀ q ∈ cl195_0, Sd gd_mt M195 q.1 q.2 := gd_ac r195_0 (gd_ac r195_1 (gd_ac r195_4 (gd_ac r195_7 (gd_ac r195_8 (gd_ac r195_9 (gd_ac r195_10 (gd_ac r195_13 (gd_ac r195_14 (gd_ac r195_15 (gd_ac r195_18 (gd_ac r195_20 (gd_ac r195_21 (gd_ac r195_23 (gd_ac r195_24 (gd_ac r195_27 (gd_ac r195_30 (gd_ac r195_31 (gd_ac r195_32 (gd_ac r195_33 (gd_ac r195_36 (gd_ac r195_39 (gd_ac r195_40 (gd_ac r195_41 (gd_ac r195_42 (gd_ac r195_45 (gd_ac r195_46 (gd_ac r195_49 (gd_ac r195_52 (gd_ac r195_53 (gd_ac r195_56 (gd_ac r195_57 (gd_ac r195_60 (gd_ac r195_61 (gd_ac r195_64 (gd_ac r195_67 (gd_ac r195_69 (gd_ac r195_72 (gd_ac r195_75 (gd_ac r195_78 (gd_ac r195_81 (gd_ac r195_83 (gd_ac r195_85 (gd_ac r195_86 (gd_ac r195_87 (gd_ac r195_90 (gd_ac r195_91 (gd_ac r195_94 (gd_an))))))))))))))))))))))))))))))))))))))))))))))))
theorem r195_95 : Sd gd_mt M195 95 (i_iadd 96) := sd_iadd dX8_readNumber_95 rfl
theorem r195_96 : Sd gd_mt M195 96 (i_psh (.int 48) 98) := sd_bipush dX8_readNumber_96 (by decide) rfl
theorem r195_98 : Sd gd_mt M195 98 (i_isub 99) := sd_isub dX8_readNumber_98 rfl
theorem r195_99 : Sd gd_mt M195 99 (i_msk [true, true, true, false, true, false] (i_ist 5 101)) := sd_msk _ (sd_istore dX8_readNumber_99 (by decide) rfl)
theorem r195_101 : Sd gd_mt M195 101 (i_ald 0 102) := sd_aload_n dX8_readNumber_101 rfl rfl
theorem r195_102 : Sd gd_mt M195 102 (i_dup 103) := sd_dup dX8_readNumber_102 rfl
theorem r195_103 : Sd gd_mt M195 103 (i_getI 8 4 106) := sd_getI ck8 (by decide) rfl (.inl q1458) dX8_readNumber_103 rfl
theorem r195_106 : Sd gd_mt M195 106 (i_psh (.int 1) 107) := sd_iconst dX8_readNumber_106 (by decide) rfl
theorem r195_107 : Sd gd_mt M195 107 (i_iadd 108) := sd_iadd dX8_readNumber_107 rfl
theorem r195_108 : Sd gd_mt M195 108 (i_putI 8 4 111) := sd_putI ck8 (by decide) rfl (.inl q1458) (.inl rfl) dX8_readNumber_108 rfl
theorem r195_111 : Sd gd_mt M195 111 (i_goto 41) := sd_goto dX8_readNumber_111 (by decide)
theorem r195_114 : Sd gd_mt M195 114 (i_msk [true, true, true, false, true, true] (i_ild 5 116)) := sd_msk _ (sd_iload dX8_readNumber_114 rfl)
theorem r195_116 : Sd gd_mt M195 116 (i_ild 1 117) := sd_iload_n dX8_readNumber_116 rfl rfl
theorem r195_117 : Sd gd_mt M195 117 (i_iclt 126 120) := sd_iclt dX8_readNumber_117 (by decide) rfl
theorem r195_120 : Sd gd_mt M195 120 (i_ild 5 122) := sd_iload dX8_readNumber_120 rfl
theorem r195_122 : Sd gd_mt M195 122 (i_ild 2 123) := sd_iload_n dX8_readNumber_122 rfl rfl
theorem r195_123 : Sd gd_mt M195 123 (i_icle 135 126) := sd_icle dX8_readNumber_123 (by decide) rfl
theorem r195_126 : Sd gd_mt M195 126 (i_msk [true, false, false, false, true, false] (i_ald 0 127)) := sd_msk _ (sd_aload_n dX8_readNumber_126 rfl rfl)
theorem r195_127 : Sd gd_mt M195 127 (i_psh (.int 2) 128) := sd_iconst dX8_readNumber_127 (by decide) rfl
theorem r195_128 : Sd gd_mt M195 128 (i_ild 4 130) := sd_iload dX8_readNumber_128 rfl
theorem r195_130 : Sd gd_mt M195 130 (i_cV 192 2 8 133) := sd_cV2 e192 cal192 q1678 q1680 (rfl : gd_cl 8 = some _) qs36 dX8_readNumber_130 rfl
theorem r195_133 : Sd gd_mt M195 133 (i_msk [false, false, false, false, false, false] (i_psh (.int 0) 134)) := sd_msk _ (sd_iconst dX8_readNumber_133 (by decide) rfl)
theorem r195_134 : Sd gd_mt M195 134 (i_iret) := sd_iret rfl dX8_readNumber_134
theorem r195_135 : Sd gd_mt M195 135 (i_ild 5 137) := sd_iload dX8_readNumber_135 rfl
theorem r195_137 : Sd gd_mt M195 137 (i_iret) := sd_iret rfl dX8_readNumber_137
def cl195_1 : List (Nat × gd_I) := [(95, i_iadd 96), (96, i_psh (.int 48) 98), (98, i_isub 99), (99, i_msk [true, true, true, false, true, false] (i_ist 5 101)), (101, i_ald 0 102), (102, i_dup 103), (103, i_getI 8 4 106), (106, i_psh (.int 1) 107), (107, i_iadd 108), (108, i_putI 8 4 111), (111, i_goto 41), (114, i_msk [true, true, true, false, true, true] (i_ild 5 116)), (116, i_ild 1 117), (117, i_iclt 126 120), (120, i_ild 5 122), (122, i_ild 2 123), (123, i_icle 135 126), (126, i_msk [true, false, false, false, true, false] (i_ald 0 127)), (127, i_psh (.int 2) 128), (128, i_ild 4 130), (130, i_cV 192 2 8 133), (133, i_msk [false, false, false, false, false, false] (i_psh (.int 0) 134)), (134, i_iret), (135, i_ild 5 137), (137, i_iret)]
theorem cs195_1 : ∀ q ∈ cl195_1, Sd gd_mt M195 q.1 q.2 := gd_ac r195_95 (gd_ac r195_96 (gd_ac r195_98 (gd_ac r195_99 (gd_ac r195_101 (gd_ac r195_102 (gd_ac r195_103 (gd_ac r195_106 (gd_ac r195_107 (gd_ac r195_108 (gd_ac r195_111 (gd_ac r195_114 (gd_ac r195_116 (gd_ac r195_117 (gd_ac r195_120 (gd_ac r195_122 (gd_ac r195_123 (gd_ac r195_126 (gd_ac r195_127 (gd_ac r195_128 (gd_ac r195_130 (gd_ac r195_133 (gd_ac r195_134 (gd_ac r195_135 (gd_ac r195_137 (gd_an)))))))))))))))))))))))))
def cd195 (pc : Nat) : gd_I := if pc < 95 then lkI cl195_0 pc else lkI cl195_1 pc
theorem cg195 : ∀ pc, Sd gd_mt M195 pc (cd195 pc) := by
  intro pc
  unfold cd195
  by_cases h0 : pc < 95
  · rw [if_pos h0]; exact sd_lk cs195_0 pc
  rw [if_neg h0]
  exact sd_lk cs195_1 pc
theorem r196_0 : Sd gd_mt M196 0 (i_ild 0 1) := sd_iload_n dX8_isDigit_0 rfl rfl
theorem r196_1 : Sd gd_mt M196 1 (i_psh (.int 48) 3) := sd_bipush dX8_isDigit_1 (by decide) rfl
theorem r196_3 : Sd gd_mt M196 3 (i_iclt 16 6) := sd_iclt dX8_isDigit_3 (by decide) rfl
theorem r196_6 : Sd gd_mt M196 6 (i_ild 0 7) := sd_iload_n dX8_isDigit_6 rfl rfl
theorem r196_7 : Sd gd_mt M196 7 (i_psh (.int 57) 9) := sd_bipush dX8_isDigit_7 (by decide) rfl
theorem r196_9 : Sd gd_mt M196 9 (i_icgt 16 12) := sd_icgt dX8_isDigit_9 (by decide) rfl
theorem r196_12 : Sd gd_mt M196 12 (i_psh (.int 1) 13) := sd_iconst dX8_isDigit_12 (by decide) rfl
theorem r196_13 : Sd gd_mt M196 13 (i_goto 17) := sd_goto dX8_isDigit_13 (by decide)
theorem r196_16 : Sd gd_mt M196 16 (i_msk [false] (i_psh (.int 0) 17)) := sd_msk _ (sd_iconst dX8_isDigit_16 (by decide) rfl)
theorem r196_17 : Sd gd_mt M196 17 (i_msk [false] (i_zret)) := sd_msk _ (sd_zret rfl dX8_isDigit_17)
def cl196_0 : List (Nat × gd_I) := [(0, i_ild 0 1), (1, i_psh (.int 48) 3), (3, i_iclt 16 6), (6, i_ild 0 7), (7, i_psh (.int 57) 9), (9, i_icgt 16 12), (12, i_psh (.int 1) 13), (13, i_goto 17), (16, i_msk [false] (i_psh (.int 0) 17)), (17, i_msk [false] (i_zret))]
theorem cs196_0 : ∀ q ∈ cl196_0, Sd gd_mt M196 q.1 q.2 := gd_ac r196_0 (gd_ac r196_1 (gd_ac r196_3 (gd_ac r196_6 (gd_ac r196_7 (gd_ac r196_9 (gd_ac r196_12 (gd_ac r196_13 (gd_ac r196_16 (gd_ac r196_17 (gd_an))))))))))
def cd196 (pc : Nat) : gd_I := lkI cl196_0 pc
theorem cg196 : ∀ pc, Sd gd_mt M196 pc (cd196 pc) := sd_lk cs196_0
theorem r197_0 : Sd gd_mt M197 0 (i_ald 0 1) := sd_aload_n dX8_readKin_0 rfl rfl
theorem r197_1 : Sd gd_mt M197 1 (i_psh (.int 0) 2) := sd_iconst dX8_readKin_1 (by decide) rfl
theorem r197_2 : Sd gd_mt M197 2 (i_ald 0 3) := sd_aload_n dX8_readKin_2 rfl rfl
theorem r197_3 : Sd gd_mt M197 3 (i_getI 8 19 6) := sd_getI ck8 (by decide) rfl (.inl q1473) dX8_readKin_3 rfl
theorem r197_6 : Sd gd_mt M197 6 (i_psh (.int 1) 7) := sd_iconst dX8_readKin_6 (by decide) rfl
theorem r197_7 : Sd gd_mt M197 7 (i_isub 8) := sd_isub dX8_readKin_7 rfl
theorem r197_8 : Sd gd_mt M197 8 (i_cV 195 2 8 11) := sd_cV2 e195 cal195 q1690 q1692 (rfl : gd_cl 8 = some _) qs39 dX8_readKin_8 rfl
theorem r197_11 : Sd gd_mt M197 11 (i_msk [true, false, false, false] (i_ist 1 12)) := sd_msk _ (sd_istore_n dX8_readKin_11 rfl (by decide) rfl)
theorem r197_12 : Sd gd_mt M197 12 (i_ald 0 13) := sd_aload_n dX8_readKin_12 rfl rfl
theorem r197_13 : Sd gd_mt M197 13 (i_cV 187 0 8 16) := sd_cV2 e187 cal187 q1655 q1657 (rfl : gd_cl 8 = some _) qs34 dX8_readKin_13 rfl
theorem r197_16 : Sd gd_mt M197 16 (i_msk [true, true, false, false] (i_pop 17)) := sd_msk _ (sd_pop dX8_readKin_16 rfl)
theorem r197_17 : Sd gd_mt M197 17 (i_ald 0 18) := sd_aload_n dX8_readKin_17 rfl rfl
theorem r197_18 : Sd gd_mt M197 18 (i_getI 8 4 21) := sd_getI ck8 (by decide) rfl (.inl q1458) dX8_readKin_18 rfl
theorem r197_21 : Sd gd_mt M197 21 (i_ist 2 22) := sd_istore_n dX8_readKin_21 rfl (by decide) rfl
theorem r197_22 : Sd gd_mt M197 22 (i_ald 0 23) := sd_aload_n dX8_readKin_22 rfl rfl
theorem r197_23 : Sd gd_mt M197 23 (i_psh (.int 0) 24) := sd_iconst dX8_readKin_23 (by decide) rfl
theorem r197_24 : Sd gd_mt M197 24 (i_ald 0 25) := sd_aload_n dX8_readKin_24 rfl rfl
theorem r197_25 : Sd gd_mt M197 25 (i_getI 8 19 28) := sd_getI ck8 (by decide) rfl (.inl q1473) dX8_readKin_25 rfl
theorem r197_28 : Sd gd_mt M197 28 (i_psh (.int 1) 29) := sd_iconst dX8_readKin_28 (by decide) rfl
theorem r197_29 : Sd gd_mt M197 29 (i_isub 30) := sd_isub dX8_readKin_29 rfl
theorem r197_30 : Sd gd_mt M197 30 (i_cV 195 2 8 33) := sd_cV2 e195 cal195 q1690 q1692 (rfl : gd_cl 8 = some _) qs39 dX8_readKin_30 rfl
theorem r197_33 : Sd gd_mt M197 33 (i_msk [true, true, true, false] (i_ist 3 34)) := sd_msk _ (sd_istore_n dX8_readKin_33 rfl (by decide) rfl)
theorem r197_34 : Sd gd_mt M197 34 (i_ald 0 35) := sd_aload_n dX8_readKin_34 rfl rfl
theorem r197_35 : Sd gd_mt M197 35 (i_cV 185 0 8 38) := sd_cV2 e185 cal185 q1647 q1649 (rfl : gd_cl 8 = some _) qs32 dX8_readKin_35 rfl
theorem r197_38 : Sd gd_mt M197 38 (i_msk [true, true, true, true] (i_ifeq 52 41)) := sd_msk _ (sd_ifeq dX8_readKin_38 (by decide) rfl)
theorem r197_41 : Sd gd_mt M197 41 (i_ild 1 42) := sd_iload_n dX8_readKin_41 rfl rfl
theorem r197_42 : Sd gd_mt M197 42 (i_ild 3 43) := sd_iload_n dX8_readKin_42 rfl rfl
theorem r197_43 : Sd gd_mt M197 43 (i_icne 52 46) := sd_icne dX8_readKin_43 (by decide) rfl
theorem r197_46 : Sd gd_mt M197 46 (i_ald 0 47) := sd_aload_n dX8_readKin_46 rfl rfl
theorem r197_47 : Sd gd_mt M197 47 (i_psh (.int 2) 48) := sd_iconst dX8_readKin_47 (by decide) rfl
theorem r197_48 : Sd gd_mt M197 48 (i_ild 2 49) := sd_iload_n dX8_readKin_48 rfl rfl
theorem r197_49 : Sd gd_mt M197 49 (i_cV 192 2 8 52) := sd_cV2 e192 cal192 q1678 q1680 (rfl : gd_cl 8 = some _) qs36 dX8_readKin_49 rfl
theorem r197_52 : Sd gd_mt M197 52 (i_msk [true, true, false, true] (i_ald 0 53)) := sd_msk _ (sd_aload_n dX8_readKin_52 rfl rfl)
theorem r197_53 : Sd gd_mt M197 53 (i_cV 185 0 8 56) := sd_cV2 e185 cal185 q1647 q1649 (rfl : gd_cl 8 = some _) qs32 dX8_readKin_53 rfl
theorem r197_56 : Sd gd_mt M197 56 (i_msk [true, true, false, true] (i_ifne 60 59)) := sd_msk _ (sd_ifne dX8_readKin_56 (by decide) rfl)
theorem r197_59 : Sd gd_mt M197 59 (i_ret) := sd_ret rfl dX8_readKin_59
theorem r197_60 : Sd gd_mt M197 60 (i_ald 0 61) := sd_aload_n dX8_readKin_60 rfl rfl
theorem r197_61 : Sd gd_mt M197 61 (i_getR 8 12 64) := sd_getR ck8 (by decide) rfl (.inl q1466) dX8_readKin_61 rfl
theorem r197_64 : Sd gd_mt M197 64 (i_ild 1 65) := sd_iload_n dX8_readKin_64 rfl rfl
theorem r197_65 : Sd gd_mt M197 65 (i_dup2 66) := sd_dup2 dX8_readKin_65 rfl
theorem r197_66 : Sd gd_mt M197 66 (i_aldI 31 67) := sd_iald dX8_readKin_66 rfl
theorem r197_67 : Sd gd_mt M197 67 (i_psh (.int 1) 68) := sd_iconst dX8_readKin_67 (by decide) rfl
theorem r197_68 : Sd gd_mt M197 68 (i_ild 3 69) := sd_iload_n dX8_readKin_68 rfl rfl
theorem r197_69 : Sd gd_mt M197 69 (i_ishl 70) := sd_ishl dX8_readKin_69 rfl
theorem r197_70 : Sd gd_mt M197 70 (i_ior 71) := sd_ior dX8_readKin_70 rfl
theorem r197_71 : Sd gd_mt M197 71 (i_astI 72) := sd_astI dX8_readKin_71 rfl
theorem r197_72 : Sd gd_mt M197 72 (i_ald 0 73) := sd_aload_n dX8_readKin_72 rfl rfl
theorem r197_73 : Sd gd_mt M197 73 (i_getR 8 12 76) := sd_getR ck8 (by decide) rfl (.inl q1466) dX8_readKin_73 rfl
def cl197_0 : List (Nat × gd_I) := [(0, i_ald 0 1), (1, i_psh (.int 0) 2), (2, i_ald 0 3), (3, i_getI 8 19 6), (6, i_psh (.int 1) 7), (7, i_isub 8), (8, i_cV 195 2 8 11), (11, i_msk [true, false, false, false] (i_ist 1 12)), (12, i_ald 0 13), (13, i_cV 187 0 8 16), (16, i_msk [true, true, false, false] (i_pop 17)), (17, i_ald 0 18), (18, i_getI 8 4 21), (21, i_ist 2 22), (22, i_ald 0 23), (23, i_psh (.int 0) 24), (24, i_ald 0 25), (25, i_getI 8 19 28), (28, i_psh (.int 1) 29), (29, i_isub 30), (30, i_cV 195 2 8 33), (33, i_msk [true, true, true, false] (i_ist 3 34)), (34, i_ald 0 35), (35, i_cV 185 0 8 38), (38, i_msk [true, true, true, true] (i_ifeq 52 41)), (41, i_ild 1 42), (42, i_ild 3 43), (43, i_icne 52 46), (46, i_ald 0 47), (47, i_psh (.int 2) 48), (48, i_ild 2 49), (49, i_cV 192 2 8 52), (52, i_msk [true, true, false, true] (i_ald 0 53)), (53, i_cV 185 0 8 56), (56, i_msk [true, true, false, true] (i_ifne 60 59)), (59, i_ret), (60, i_ald 0 61), (61, i_getR 8 12 64), (64, i_ild 1 65), (65, i_dup2 66), (66, i_aldI 31 67), (67, i_psh (.int 1) 68), (68, i_ild 3 69), (69, i_ishl 70), (70, i_ior 71), (71, i_astI 72), (72, i_ald 0 73), (73, i_getR 8 12 76)]
theorem cs197_0 : ∀ q ∈ cl197_0, Sd gd_mt M197 q.1 q.2 := gd_ac r197_0 (gd_ac r197_1 (gd_ac r197_2 (gd_ac r197_3 (gd_ac r197_6 (gd_ac r197_7 (gd_ac r197_8 (gd_ac r197_11 (gd_ac r197_12 (gd_ac r197_13 (gd_ac r197_16 (gd_ac r197_17 (gd_ac r197_18 (gd_ac r197_21 (gd_ac r197_22 (gd_ac r197_23 (gd_ac r197_24 (gd_ac r197_25 (gd_ac r197_28 (gd_ac r197_29 (gd_ac r197_30 (gd_ac r197_33 (gd_ac r197_34 (gd_ac r197_35 (gd_ac r197_38 (gd_ac r197_41 (gd_ac r197_42 (gd_ac r197_43 (gd_ac r197_46 (gd_ac r197_47 (gd_ac r197_48 (gd_ac r197_49 (gd_ac r197_52 (gd_ac r197_53 (gd_ac r197_56 (gd_ac r197_59 (gd_ac r197_60 (gd_ac r197_61 (gd_ac r197_64 (gd_ac r197_65 (gd_ac r197_66 (gd_ac r197_67 (gd_ac r197_68 (gd_ac r197_69 (gd_ac r197_70 (gd_ac r197_71 (gd_ac r197_72 (gd_ac r197_73 (gd_an))))))))))))))))))))))))))))))))))))))))))))))))
theorem r197_76 : Sd gd_mt M197 76 (i_ild 3 77) := sd_iload_n dX8_readKin_76 rfl rfl
theorem r197_77 : Sd gd_mt M197 77 (i_dup2 78) := sd_dup2 dX8_readKin_77 rfl
theorem r197_78 : Sd gd_mt M197 78 (i_aldI 31 79) := sd_iald dX8_readKin_78 rfl
theorem r197_79 : Sd gd_mt M197 79 (i_psh (.int 1) 80) := sd_iconst dX8_readKin_79 (by decide) rfl
theorem r197_80 : Sd gd_mt M197 80 (i_ild 1 81) := sd_iload_n dX8_readKin_80 rfl rfl
theorem r197_81 : Sd gd_mt M197 81 (i_ishl 82) := sd_ishl dX8_readKin_81 rfl
theorem r197_82 : Sd gd_mt M197 82 (i_ior 83) := sd_ior dX8_readKin_82 rfl
theorem r197_83 : Sd gd_mt M197 83 (i_astI 84) := sd_astI dX8_readKin_83 rfl
theorem r197_84 : Sd gd_mt M197 84 (i_ret) := sd_ret rfl dX8_readKin_84
def cl197_1 : List (Nat × gd_I) := [(76, i_ild 3 77), (77, i_dup2 78), (78, i_aldI 31 79), (79, i_psh (.int 1) 80), (80, i_ild 1 81), (81, i_ishl 82), (82, i_ior 83), (83, i_astI 84), (84, i_ret)]
theorem cs197_1 : ∀ q ∈ cl197_1, Sd gd_mt M197 q.1 q.2 := gd_ac r197_76 (gd_ac r197_77 (gd_ac r197_78 (gd_ac r197_79 (gd_ac r197_80 (gd_ac r197_81 (gd_ac r197_82 (gd_ac r197_83 (gd_ac r197_84 (gd_an)))))))))
def cd197 (pc : Nat) : gd_I := if pc < 76 then lkI cl197_0 pc else lkI cl197_1 pc
theorem cg197 : ∀ pc, Sd gd_mt M197 pc (cd197 pc) := by
  intro pc
  unfold cd197
  by_cases h0 : pc < 76
  · rw [if_pos h0]; exact sd_lk cs197_0 pc
  rw [if_neg h0]
  exact sd_lk cs197_1 pc
theorem r198_0 : Sd gd_mt M198 0 (i_ald 0 1) := sd_aload_n dX8_sign_0 rfl rfl
theorem r198_1 : Sd gd_mt M198 1 (i_cV 185 0 8 4) := sd_cV2 e185 cal185 q1647 q1649 (rfl : gd_cl 8 = some _) qs32 dX8_sign_1 rfl
theorem r198_4 : Sd gd_mt M198 4 (i_msk [true, true] (i_ifeq 24 7)) := sd_msk _ (sd_ifeq dX8_sign_4 (by decide) rfl)
theorem r198_7 : Sd gd_mt M198 7 (i_ald 0 8) := sd_aload_n dX8_sign_7 rfl rfl
theorem r198_8 : Sd gd_mt M198 8 (i_cV 187 0 8 11) := sd_cV2 e187 cal187 q1655 q1657 (rfl : gd_cl 8 = some _) qs34 dX8_sign_8 rfl
theorem r198_11 : Sd gd_mt M198 11 (i_msk [true, true] (i_ild 1 12)) := sd_msk _ (sd_iload_n dX8_sign_11 rfl rfl)
theorem r198_12 : Sd gd_mt M198 12 (i_iceq 24 15) := sd_iceq dX8_sign_12 (by decide) rfl
theorem r198_15 : Sd gd_mt M198 15 (i_ald 0 16) := sd_aload_n dX8_sign_15 rfl rfl
theorem r198_16 : Sd gd_mt M198 16 (i_psh (.int 1) 17) := sd_iconst dX8_sign_16 (by decide) rfl
theorem r198_17 : Sd gd_mt M198 17 (i_ald 0 18) := sd_aload_n dX8_sign_17 rfl rfl
theorem r198_18 : Sd gd_mt M198 18 (i_getI 8 4 21) := sd_getI ck8 (by decide) rfl (.inl q1458) dX8_sign_18 rfl
theorem r198_21 : Sd gd_mt M198 21 (i_cV 192 2 8 24) := sd_cV2 e192 cal192 q1678 q1680 (rfl : gd_cl 8 = some _) qs36 dX8_sign_21 rfl
theorem r198_24 : Sd gd_mt M198 24 (i_msk [true, false] (i_ald 0 25)) := sd_msk _ (sd_aload_n dX8_sign_24 rfl rfl)
theorem r198_25 : Sd gd_mt M198 25 (i_cV 185 0 8 28) := sd_cV2 e185 cal185 q1647 q1649 (rfl : gd_cl 8 = some _) qs32 dX8_sign_25 rfl
theorem r198_28 : Sd gd_mt M198 28 (i_msk [true, false] (i_ifeq 41 31)) := sd_msk _ (sd_ifeq dX8_sign_28 (by decide) rfl)
theorem r198_31 : Sd gd_mt M198 31 (i_ald 0 32) := sd_aload_n dX8_sign_31 rfl rfl
theorem r198_32 : Sd gd_mt M198 32 (i_dup 33) := sd_dup dX8_sign_32 rfl
theorem r198_33 : Sd gd_mt M198 33 (i_getI 8 4 36) := sd_getI ck8 (by decide) rfl (.inl q1458) dX8_sign_33 rfl
theorem r198_36 : Sd gd_mt M198 36 (i_psh (.int 1) 37) := sd_iconst dX8_sign_36 (by decide) rfl
theorem r198_37 : Sd gd_mt M198 37 (i_iadd 38) := sd_iadd dX8_sign_37 rfl
theorem r198_38 : Sd gd_mt M198 38 (i_putI 8 4 41) := sd_putI ck8 (by decide) rfl (.inl q1458) (.inl rfl) dX8_sign_38 rfl
theorem r198_41 : Sd gd_mt M198 41 (i_msk [false, false] (i_ret)) := sd_msk _ (sd_ret rfl dX8_sign_41)
def cl198_0 : List (Nat × gd_I) := [(0, i_ald 0 1), (1, i_cV 185 0 8 4), (4, i_msk [true, true] (i_ifeq 24 7)), (7, i_ald 0 8), (8, i_cV 187 0 8 11), (11, i_msk [true, true] (i_ild 1 12)), (12, i_iceq 24 15), (15, i_ald 0 16), (16, i_psh (.int 1) 17), (17, i_ald 0 18), (18, i_getI 8 4 21), (21, i_cV 192 2 8 24), (24, i_msk [true, false] (i_ald 0 25)), (25, i_cV 185 0 8 28), (28, i_msk [true, false] (i_ifeq 41 31)), (31, i_ald 0 32), (32, i_dup 33), (33, i_getI 8 4 36), (36, i_psh (.int 1) 37), (37, i_iadd 38), (38, i_putI 8 4 41), (41, i_msk [false, false] (i_ret))]
theorem cs198_0 : ∀ q ∈ cl198_0, Sd gd_mt M198 q.1 q.2 := gd_ac r198_0 (gd_ac r198_1 (gd_ac r198_4 (gd_ac r198_7 (gd_ac r198_8 (gd_ac r198_11 (gd_ac r198_12 (gd_ac r198_15 (gd_ac r198_16 (gd_ac r198_17 (gd_ac r198_18 (gd_ac r198_21 (gd_ac r198_24 (gd_ac r198_25 (gd_ac r198_28 (gd_ac r198_31 (gd_ac r198_32 (gd_ac r198_33 (gd_ac r198_36 (gd_ac r198_37 (gd_ac r198_38 (gd_ac r198_41 (gd_an))))))))))))))))))))))
def cd198 (pc : Nat) : gd_I := lkI cl198_0 pc
theorem cg198 : ∀ pc, Sd gd_mt M198 pc (cd198 pc) := sd_lk cs198_0
theorem r199_0 : Sd gd_mt M199 0 (i_ald 0 1) := sd_aload_n dX8_result_0 rfl rfl
theorem r199_1 : Sd gd_mt M199 1 (i_ald 0 2) := sd_aload_n dX8_result_1 rfl rfl
theorem r199_2 : Sd gd_mt M199 2 (i_getI 8 5 5) := sd_getI ck8 (by decide) rfl (.inl q1459) dX8_result_2 rfl
theorem r199_5 : Sd gd_mt M199 5 (i_putI 8 8 8) := sd_putI ck8 (by decide) rfl (.inl q1462) (.inl rfl) dX8_result_5 rfl
theorem r199_8 : Sd gd_mt M199 8 (i_ald 0 9) := sd_aload_n dX8_result_8 rfl rfl
theorem r199_9 : Sd gd_mt M199 9 (i_cV 185 0 8 12) := sd_cV2 e185 cal185 q1647 q1649 (rfl : gd_cl 8 = some _) qs32 dX8_result_9 rfl
theorem r199_12 : Sd gd_mt M199 12 (i_msk [true, true] (i_ifeq 19 15)) := sd_msk _ (sd_ifeq dX8_result_12 (by decide) rfl)
theorem r199_15 : Sd gd_mt M199 15 (i_ild 1 16) := sd_iload_n dX8_result_15 rfl rfl
theorem r199_16 : Sd gd_mt M199 16 (i_goto 26) := sd_goto dX8_result_16 (by decide)
theorem r199_19 : Sd gd_mt M199 19 (i_ald 0 20) := sd_aload_n dX8_result_19 rfl rfl
theorem r199_20 : Sd gd_mt M199 20 (i_getI 8 6 23) := sd_getI ck8 (by decide) rfl (.inl q1460) dX8_result_20 rfl
theorem r199_23 : Sd gd_mt M199 23 (i_psh (.int 10) 25) := sd_bipush dX8_result_23 (by decide) rfl
theorem r199_25 : Sd gd_mt M199 25 (i_isub 26) := sd_isub dX8_result_25 rfl
theorem r199_26 : Sd gd_mt M199 26 (i_msk [false, false] (i_iret)) := sd_msk _ (sd_iret rfl dX8_result_26)
def cl199_0 : List (Nat × gd_I) := [(0, i_ald 0 1), (1, i_ald 0 2), (2, i_getI 8 5 5), (5, i_putI 8 8 8), (8, i_ald 0 9), (9, i_cV 185 0 8 12), (12, i_msk [true, true] (i_ifeq 19 15)), (15, i_ild 1 16), (16, i_goto 26), (19, i_ald 0 20), (20, i_getI 8 6 23), (23, i_psh (.int 10) 25), (25, i_isub 26), (26, i_msk [false, false] (i_iret))]
theorem cs199_0 : ∀ q ∈ cl199_0, Sd gd_mt M199 q.1 q.2 := gd_ac r199_0 (gd_ac r199_1 (gd_ac r199_2 (gd_ac r199_5 (gd_ac r199_8 (gd_ac r199_9 (gd_ac r199_12 (gd_ac r199_15 (gd_ac r199_16 (gd_ac r199_19 (gd_ac r199_20 (gd_ac r199_23 (gd_ac r199_25 (gd_ac r199_26 (gd_an))))))))))))))
def cd199 (pc : Nat) : gd_I := lkI cl199_0 pc
theorem cg199 : ∀ pc, Sd gd_mt M199 pc (cd199 pc) := sd_lk cs199_0
theorem r200_0 : Sd gd_mt M200 0 (i_ald 0 1) := sd_aload_n dX8_law_0 rfl rfl
theorem r200_1 : Sd gd_mt M200 1 (i_psh (.int 0) 2) := sd_iconst dX8_law_1 (by decide) rfl
theorem r200_2 : Sd gd_mt M200 2 (i_putI 8 0 5) := sd_putI ck8 (by decide) rfl (.inl q1454) (.inl rfl) dX8_law_2 rfl
theorem r200_5 : Sd gd_mt M200 5 (i_ald 0 6) := sd_aload_n dX8_law_5 rfl rfl
theorem r200_6 : Sd gd_mt M200 6 (i_ild 1 7) := sd_iload_n dX8_law_6 rfl rfl
theorem r200_7 : Sd gd_mt M200 7 (i_iflt 29 10) := sd_iflt dX8_law_7 (by decide) rfl
theorem r200_10 : Sd gd_mt M200 10 (i_ild 1 11) := sd_iload_n dX8_law_10 rfl rfl
theorem r200_11 : Sd gd_mt M200 11 (i_ald 0 12) := sd_aload_n dX8_law_11 rfl rfl
theorem r200_12 : Sd gd_mt M200 12 (i_getI 8 2 15) := sd_getI ck8 (by decide) rfl (.inl q1456) dX8_law_12 rfl
theorem r200_15 : Sd gd_mt M200 15 (i_icgt 29 18) := sd_icgt dX8_law_15 (by decide) rfl
theorem r200_18 : Sd gd_mt M200 18 (i_ild 1 19) := sd_iload_n dX8_law_18 rfl rfl
theorem r200_19 : Sd gd_mt M200 19 (i_psh (.int 150) 22) := sd_sipush dX8_law_19 (by decide) rfl
theorem r200_22 : Sd gd_mt M200 22 (i_icgt 29 25) := sd_icgt dX8_law_22 (by decide) rfl
theorem r200_25 : Sd gd_mt M200 25 (i_psh (.int 1) 26) := sd_iconst dX8_law_25 (by decide) rfl
theorem r200_26 : Sd gd_mt M200 26 (i_goto 30) := sd_goto dX8_law_26 (by decide)
theorem r200_29 : Sd gd_mt M200 29 (i_msk [true, true, false] (i_psh (.int 0) 30)) := sd_msk _ (sd_iconst dX8_law_29 (by decide) rfl)
theorem r200_30 : Sd gd_mt M200 30 (i_msk [true, true, false] (i_psh (.int 1) 31)) := sd_msk _ (sd_iconst dX8_law_30 (by decide) rfl)
theorem r200_31 : Sd gd_mt M200 31 (i_psh (.int 1) 32) := sd_iconst dX8_law_31 (by decide) rfl
theorem r200_32 : Sd gd_mt M200 32 (i_cV 183 3 8 35) := sd_cV2 e183 cal183 q1639 q1641 (rfl : gd_cl 8 = some _) qs30 dX8_law_32 rfl
theorem r200_35 : Sd gd_mt M200 35 (i_msk [true, true, false] (i_ifne 40 38)) := sd_msk _ (sd_ifne dX8_law_35 (by decide) rfl)
theorem r200_38 : Sd gd_mt M200 38 (i_psh (.int 0) 39) := sd_iconst dX8_law_38 (by decide) rfl
theorem r200_39 : Sd gd_mt M200 39 (i_iret) := sd_iret rfl dX8_law_39
theorem r200_40 : Sd gd_mt M200 40 (i_ald 0 41) := sd_aload_n dX8_law_40 rfl rfl
theorem r200_41 : Sd gd_mt M200 41 (i_ild 1 42) := sd_iload_n dX8_law_41 rfl rfl
theorem r200_42 : Sd gd_mt M200 42 (i_cV 184 1 8 45) := sd_cV2 e184 cal184 q1643 q1645 (rfl : gd_cl 8 = some _) qs31 dX8_law_42 rfl
theorem r200_45 : Sd gd_mt M200 45 (i_msk [true, false, false] (i_ald 0 46)) := sd_msk _ (sd_aload_n dX8_law_45 rfl rfl)
theorem r200_46 : Sd gd_mt M200 46 (i_psh (.int 0) 47) := sd_iconst dX8_law_46 (by decide) rfl
theorem r200_47 : Sd gd_mt M200 47 (i_putI 8 27 50) := sd_putI ck8 (by decide) rfl (.inl q1481) (.inl rfl) dX8_law_47 rfl
theorem r200_50 : Sd gd_mt M200 50 (i_ald 0 51) := sd_aload_n dX8_law_50 rfl rfl
theorem r200_51 : Sd gd_mt M200 51 (i_cV 201 0 8 54) := sd_cV2 e201 cal201 q1713 q1715 (rfl : gd_cl 8 = some _) qs43 dX8_law_51 rfl
theorem r200_54 : Sd gd_mt M200 54 (i_msk [true, false, false] (i_ald 0 55)) := sd_msk _ (sd_aload_n dX8_law_54 rfl rfl)
theorem r200_55 : Sd gd_mt M200 55 (i_cV 185 0 8 58) := sd_cV2 e185 cal185 q1647 q1649 (rfl : gd_cl 8 = some _) qs32 dX8_law_55 rfl
theorem r200_58 : Sd gd_mt M200 58 (i_msk [true, false, false] (i_ifeq 77 61)) := sd_msk _ (sd_ifeq dX8_law_58 (by decide) rfl)
theorem r200_61 : Sd gd_mt M200 61 (i_ald 0 62) := sd_aload_n dX8_law_61 rfl rfl
theorem r200_62 : Sd gd_mt M200 62 (i_cV 186 0 8 65) := sd_cV2 e186 cal186 q1651 q1653 (rfl : gd_cl 8 = some _) qs33 dX8_law_62 rfl
theorem r200_65 : Sd gd_mt M200 65 (i_msk [true, false, false] (i_ifeq 77 68)) := sd_msk _ (sd_ifeq dX8_law_65 (by decide) rfl)
theorem r200_68 : Sd gd_mt M200 68 (i_ald 0 69) := sd_aload_n dX8_law_68 rfl rfl
theorem r200_69 : Sd gd_mt M200 69 (i_psh (.int 1) 70) := sd_iconst dX8_law_69 (by decide) rfl
theorem r200_70 : Sd gd_mt M200 70 (i_ald 0 71) := sd_aload_n dX8_law_70 rfl rfl
theorem r200_71 : Sd gd_mt M200 71 (i_getI 8 4 74) := sd_getI ck8 (by decide) rfl (.inl q1458) dX8_law_71 rfl
theorem r200_74 : Sd gd_mt M200 74 (i_cV 192 2 8 77) := sd_cV2 e192 cal192 q1678 q1680 (rfl : gd_cl 8 = some _) qs36 dX8_law_74 rfl
theorem r200_77 : Sd gd_mt M200 77 (i_msk [true, false, false] (i_ald 0 78)) := sd_msk _ (sd_aload_n dX8_law_77 rfl rfl)
theorem r200_78 : Sd gd_mt M200 78 (i_psh (.int 1) 79) := sd_iconst dX8_law_78 (by decide) rfl
theorem r200_79 : Sd gd_mt M200 79 (i_cV 199 1 8 82) := sd_cV2 e199 cal199 q1705 q1707 (rfl : gd_cl 8 = some _) qs42 dX8_law_79 rfl
theorem r200_82 : Sd gd_mt M200 82 (i_msk [true, false, false] (i_ist 2 83)) := sd_msk _ (sd_istore_n dX8_law_82 rfl (by decide) rfl)
theorem r200_83 : Sd gd_mt M200 83 (i_ald 0 84) := sd_aload_n dX8_law_83 rfl rfl
theorem r200_84 : Sd gd_mt M200 84 (i_getI 8 5 87) := sd_getI ck8 (by decide) rfl (.inl q1459) dX8_law_84 rfl
theorem r200_87 : Sd gd_mt M200 87 (i_psh (.int (-1)) 88) := sd_iconst dX8_law_87 (by decide) rfl
def cl200_0 : List (Nat × gd_I) := [(0, i_ald 0 1), (1, i_psh (.int 0) 2), (2, i_putI 8 0 5), (5, i_ald 0 6), (6, i_ild 1 7), (7, i_iflt 29 10), (10, i_ild 1 11), (11, i_ald 0 12), (12, i_getI 8 2 15), (15, i_icgt 29 18), (18, i_ild 1 19), (19, i_psh (.int 150) 22), (22, i_icgt 29 25), (25, i_psh (.int 1) 26), (26, i_goto 30), (29, i_msk [true, true, false] (i_psh (.int 0) 30)), (30, i_msk [true, true, false] (i_psh (.int 1) 31)), (31, i_psh (.int 1) 32), (32, i_cV 183 3 8 35), (35, i_msk [true, true, false] (i_ifne 40 38)), (38, i_psh (.int 0) 39), (39, i_iret), (40, i_ald 0 41), (41, i_ild 1 42), (42, i_cV 184 1 8 45), (45, i_msk [true, false, false] (i_ald 0 46)), (46, i_psh (.int 0) 47), (47, i_putI 8 27 50), (50, i_ald 0 51), (51, i_cV 201 0 8 54), (54, i_msk [true, false, false] (i_ald 0 55)), (55, i_cV 185 0 8 58), (58, i_msk [true, false, false] (i_ifeq 77 61)), (61, i_ald 0 62), (62, i_cV 186 0 8 65), (65, i_msk [true, false, false] (i_ifeq 77 68)), (68, i_ald 0 69), (69, i_psh (.int 1) 70), (70, i_ald 0 71), (71, i_getI 8 4 74), (74, i_cV 192 2 8 77), (77, i_msk [true, false, false] (i_ald 0 78)), (78, i_psh (.int 1) 79), (79, i_cV 199 1 8 82), (82, i_msk [true, false, false] (i_ist 2 83)), (83, i_ald 0 84), (84, i_getI 8 5 87), (87, i_psh (.int (-1)) 88)]
theorem cs200_0 : ∀ q ∈ cl200_0, Sd gd_mt M200 q.1 q.2 := gd_ac r200_0 (gd_ac r200_1 (gd_ac r200_2 (gd_ac r200_5 (gd_ac r200_6 (gd_ac r200_7 (gd_ac r200_10 (gd_ac r200_11 (gd_ac r200_12 (gd_ac r200_15 (gd_ac r200_18 (gd_ac r200_19 (gd_ac r200_22 (gd_ac r200_25 (gd_ac r200_26 (gd_ac r200_29 (gd_ac r200_30 (gd_ac r200_31 (gd_ac r200_32 (gd_ac r200_35 (gd_ac r200_38 (gd_ac r200_39 (gd_ac r200_40 (gd_ac r200_41 (gd_ac r200_42 (gd_ac r200_45 (gd_ac r200_46 (gd_ac r200_47 (gd_ac r200_50 (gd_ac r200_51 (gd_ac r200_54 (gd_ac r200_55 (gd_ac r200_58 (gd_ac r200_61 (gd_ac r200_62 (gd_ac r200_65 (gd_ac r200_68 (gd_ac r200_69 (gd_ac r200_70 (gd_ac r200_71 (gd_ac r200_74 (gd_ac r200_77 (gd_ac r200_78 (gd_ac r200_79 (gd_ac r200_82 (gd_ac r200_83 (gd_ac r200_84 (gd_ac r200_87 (gd_an))))))))))))))))))))))))))))))))))))))))))))))))
theorem r200_88 : Sd gd_mt M200 88 (i_iceq 93 91) := sd_iceq dX8_law_88 (by decide) rfl
theorem r200_91 : Sd gd_mt M200 91 (i_ild 2 92) := sd_iload_n dX8_law_91 rfl rfl
theorem r200_92 : Sd gd_mt M200 92 (i_iret) := sd_iret rfl dX8_law_92
theorem r200_93 : Sd gd_mt M200 93 (i_ald 0 94) := sd_aload_n dX8_law_93 rfl rfl
theorem r200_94 : Sd gd_mt M200 94 (i_ald 0 95) := sd_aload_n dX8_law_94 rfl rfl
theorem r200_95 : Sd gd_mt M200 95 (i_getI 8 27 98) := sd_getI ck8 (by decide) rfl (.inl q1481) dX8_law_95 rfl
theorem r200_98 : Sd gd_mt M200 98 (i_putI 8 28 101) := sd_putI ck8 (by decide) rfl (.inl q1482) (.inl rfl) dX8_law_98 rfl
theorem r200_101 : Sd gd_mt M200 101 (i_ald 0 102) := sd_aload_n dX8_law_101 rfl rfl
theorem r200_102 : Sd gd_mt M200 102 (i_ald 0 103) := sd_aload_n dX8_law_102 rfl rfl
theorem r200_103 : Sd gd_mt M200 103 (i_getR 8 22 106) := sd_getR ck8 (by decide) rfl (.inl q1476) dX8_law_103 rfl
theorem r200_106 : Sd gd_mt M200 106 (i_ald 0 107) := sd_aload_n dX8_law_106 rfl rfl
theorem r200_107 : Sd gd_mt M200 107 (i_getR 8 24 110) := sd_getR ck8 (by decide) rfl (.inl q1478) dX8_law_107 rfl
theorem r200_110 : Sd gd_mt M200 110 (i_ald 0 111) := sd_aload_n dX8_law_110 rfl rfl
theorem r200_111 : Sd gd_mt M200 111 (i_getI 8 27 114) := sd_getI ck8 (by decide) rfl (.inl q1481) dX8_law_111 rfl
theorem r200_114 : Sd gd_mt M200 114 (i_cV 179 3 8 117) := sd_cV2 e179 cal179 q1450 q1452 (rfl : gd_cl 8 = some _) qs29 dX8_law_114 rfl
theorem r200_117 : Sd gd_mt M200 117 (i_msk [true, false, true] (i_ald 0 118)) := sd_msk _ (sd_aload_n dX8_law_117 rfl rfl)
theorem r200_118 : Sd gd_mt M200 118 (i_ald 0 119) := sd_aload_n dX8_law_118 rfl rfl
theorem r200_119 : Sd gd_mt M200 119 (i_getR 8 23 122) := sd_getR ck8 (by decide) rfl (.inl q1477) dX8_law_119 rfl
theorem r200_122 : Sd gd_mt M200 122 (i_ald 0 123) := sd_aload_n dX8_law_122 rfl rfl
theorem r200_123 : Sd gd_mt M200 123 (i_getR 8 25 126) := sd_getR ck8 (by decide) rfl (.inl q1479) dX8_law_123 rfl
theorem r200_126 : Sd gd_mt M200 126 (i_ald 0 127) := sd_aload_n dX8_law_126 rfl rfl
theorem r200_127 : Sd gd_mt M200 127 (i_getI 8 27 130) := sd_getI ck8 (by decide) rfl (.inl q1481) dX8_law_127 rfl
theorem r200_130 : Sd gd_mt M200 130 (i_cV 179 3 8 133) := sd_cV2 e179 cal179 q1450 q1452 (rfl : gd_cl 8 = some _) qs29 dX8_law_130 rfl
theorem r200_133 : Sd gd_mt M200 133 (i_msk [false, false, true] (i_ild 2 134)) := sd_msk _ (sd_iload_n dX8_law_133 rfl rfl)
theorem r200_134 : Sd gd_mt M200 134 (i_iret) := sd_iret rfl dX8_law_134
def cl200_1 : List (Nat × gd_I) := [(88, i_iceq 93 91), (91, i_ild 2 92), (92, i_iret), (93, i_ald 0 94), (94, i_ald 0 95), (95, i_getI 8 27 98), (98, i_putI 8 28 101), (101, i_ald 0 102), (102, i_ald 0 103), (103, i_getR 8 22 106), (106, i_ald 0 107), (107, i_getR 8 24 110), (110, i_ald 0 111), (111, i_getI 8 27 114), (114, i_cV 179 3 8 117), (117, i_msk [true, false, true] (i_ald 0 118)), (118, i_ald 0 119), (119, i_getR 8 23 122), (122, i_ald 0 123), (123, i_getR 8 25 126), (126, i_ald 0 127), (127, i_getI 8 27 130), (130, i_cV 179 3 8 133), (133, i_msk [false, false, true] (i_ild 2 134)), (134, i_iret)]
theorem cs200_1 : ∀ q ∈ cl200_1, Sd gd_mt M200 q.1 q.2 := gd_ac r200_88 (gd_ac r200_91 (gd_ac r200_92 (gd_ac r200_93 (gd_ac r200_94 (gd_ac r200_95 (gd_ac r200_98 (gd_ac r200_101 (gd_ac r200_102 (gd_ac r200_103 (gd_ac r200_106 (gd_ac r200_107 (gd_ac r200_110 (gd_ac r200_111 (gd_ac r200_114 (gd_ac r200_117 (gd_ac r200_118 (gd_ac r200_119 (gd_ac r200_122 (gd_ac r200_123 (gd_ac r200_126 (gd_ac r200_127 (gd_ac r200_130 (gd_ac r200_133 (gd_ac r200_134 (gd_an)))))))))))))))))))))))))
def cd200 (pc : Nat) : gd_I := if pc < 88 then lkI cl200_0 pc else lkI cl200_1 pc
theorem cg200 : ∀ pc, Sd gd_mt M200 pc (cd200 pc) := by
  intro pc
  unfold cd200
  by_cases h0 : pc < 88
  · rw [if_pos h0]; exact sd_lk cs200_0 pc
  rw [if_neg h0]
  exact sd_lk cs200_1 pc
theorem r201_0 : Sd gd_mt M201 0 (i_ald 0 1) := sd_aload_n dX8_readSum_0 rfl rfl
theorem r201_1 : Sd gd_mt M201 1 (i_cV 202 0 8 4) := sd_cV2 e202 cal202 q1717 q1719 (rfl : gd_cl 8 = some _) qs44 dX8_readSum_1 rfl
theorem r201_4 : Sd gd_mt M201 4 (i_msk [true, false] (i_ald 0 5)) := sd_msk _ (sd_aload_n dX8_readSum_4 rfl rfl)
theorem r201_5 : Sd gd_mt M201 5 (i_cV 185 0 8 8) := sd_cV2 e185 cal185 q1647 q1649 (rfl : gd_cl 8 = some _) qs32 dX8_readSum_5 rfl
theorem r201_8 : Sd gd_mt M201 8 (i_msk [true, false] (i_ifeq 67 11)) := sd_msk _ (sd_ifeq dX8_readSum_8 (by decide) rfl)
theorem r201_11 : Sd gd_mt M201 11 (i_ald 0 12) := sd_aload_n dX8_readSum_11 rfl rfl
theorem r201_12 : Sd gd_mt M201 12 (i_cV 187 0 8 15) := sd_cV2 e187 cal187 q1655 q1657 (rfl : gd_cl 8 = some _) qs34 dX8_readSum_12 rfl
theorem r201_15 : Sd gd_mt M201 15 (i_msk [true, false] (i_psh (.int 43) 17)) := sd_msk _ (sd_bipush dX8_readSum_15 (by decide) rfl)
theorem r201_17 : Sd gd_mt M201 17 (i_iceq 29 20) := sd_iceq dX8_readSum_17 (by decide) rfl
theorem r201_20 : Sd gd_mt M201 20 (i_ald 0 21) := sd_aload_n dX8_readSum_20 rfl rfl
theorem r201_21 : Sd gd_mt M201 21 (i_cV 187 0 8 24) := sd_cV2 e187 cal187 q1655 q1657 (rfl : gd_cl 8 = some _) qs34 dX8_readSum_21 rfl
theorem r201_24 : Sd gd_mt M201 24 (i_msk [true, false] (i_psh (.int 45) 26)) := sd_msk _ (sd_bipush dX8_readSum_24 (by decide) rfl)
theorem r201_26 : Sd gd_mt M201 26 (i_icne 67 29) := sd_icne dX8_readSum_26 (by decide) rfl
theorem r201_29 : Sd gd_mt M201 29 (i_msk [true, false] (i_ald 0 30)) := sd_msk _ (sd_aload_n dX8_readSum_29 rfl rfl)
theorem r201_30 : Sd gd_mt M201 30 (i_cV 187 0 8 33) := sd_cV2 e187 cal187 q1655 q1657 (rfl : gd_cl 8 = some _) qs34 dX8_readSum_30 rfl
theorem r201_33 : Sd gd_mt M201 33 (i_msk [true, false] (i_psh (.int 43) 35)) := sd_msk _ (sd_bipush dX8_readSum_33 (by decide) rfl)
theorem r201_35 : Sd gd_mt M201 35 (i_icne 42 38) := sd_icne dX8_readSum_35 (by decide) rfl
theorem r201_38 : Sd gd_mt M201 38 (i_psh (.int 2) 39) := sd_iconst dX8_readSum_38 (by decide) rfl
theorem r201_39 : Sd gd_mt M201 39 (i_goto 43) := sd_goto dX8_readSum_39 (by decide)
theorem r201_42 : Sd gd_mt M201 42 (i_psh (.int 3) 43) := sd_iconst dX8_readSum_42 (by decide) rfl
theorem r201_43 : Sd gd_mt M201 43 (i_msk [true, false] (i_ist 1 44)) := sd_msk _ (sd_istore_n dX8_readSum_43 rfl (by decide) rfl)
theorem r201_44 : Sd gd_mt M201 44 (i_ald 0 45) := sd_aload_n dX8_readSum_44 rfl rfl
theorem r201_45 : Sd gd_mt M201 45 (i_dup 46) := sd_dup dX8_readSum_45 rfl
theorem r201_46 : Sd gd_mt M201 46 (i_getI 8 4 49) := sd_getI ck8 (by decide) rfl (.inl q1458) dX8_readSum_46 rfl
theorem r201_49 : Sd gd_mt M201 49 (i_psh (.int 1) 50) := sd_iconst dX8_readSum_49 (by decide) rfl
theorem r201_50 : Sd gd_mt M201 50 (i_iadd 51) := sd_iadd dX8_readSum_50 rfl
theorem r201_51 : Sd gd_mt M201 51 (i_putI 8 4 54) := sd_putI ck8 (by decide) rfl (.inl q1458) (.inl rfl) dX8_readSum_51 rfl
theorem r201_54 : Sd gd_mt M201 54 (i_ald 0 55) := sd_aload_n dX8_readSum_54 rfl rfl
theorem r201_55 : Sd gd_mt M201 55 (i_cV 202 0 8 58) := sd_cV2 e202 cal202 q1717 q1719 (rfl : gd_cl 8 = some _) qs44 dX8_readSum_55 rfl
theorem r201_58 : Sd gd_mt M201 58 (i_msk [true, true] (i_ald 0 59)) := sd_msk _ (sd_aload_n dX8_readSum_58 rfl rfl)
theorem r201_59 : Sd gd_mt M201 59 (i_ild 1 60) := sd_iload_n dX8_readSum_59 rfl rfl
theorem r201_60 : Sd gd_mt M201 60 (i_psh (.int 0) 61) := sd_iconst dX8_readSum_60 (by decide) rfl
theorem r201_61 : Sd gd_mt M201 61 (i_cV 205 2 8 64) := sd_cV2 e205 cal205 q1729 q1731 (rfl : gd_cl 8 = some _) qs47 dX8_readSum_61 rfl
theorem r201_64 : Sd gd_mt M201 64 (i_msk [true, false] (i_goto 4)) := sd_msk _ (sd_goto dX8_readSum_64 (by decide))
theorem r201_67 : Sd gd_mt M201 67 (i_msk [false, false] (i_ret)) := sd_msk _ (sd_ret rfl dX8_readSum_67)
def cl201_0 : List (Nat × gd_I) := [(0, i_ald 0 1), (1, i_cV 202 0 8 4), (4, i_msk [true, false] (i_ald 0 5)), (5, i_cV 185 0 8 8), (8, i_msk [true, false] (i_ifeq 67 11)), (11, i_ald 0 12), (12, i_cV 187 0 8 15), (15, i_msk [true, false] (i_psh (.int 43) 17)), (17, i_iceq 29 20), (20, i_ald 0 21), (21, i_cV 187 0 8 24), (24, i_msk [true, false] (i_psh (.int 45) 26)), (26, i_icne 67 29), (29, i_msk [true, false] (i_ald 0 30)), (30, i_cV 187 0 8 33), (33, i_msk [true, false] (i_psh (.int 43) 35)), (35, i_icne 42 38), (38, i_psh (.int 2) 39), (39, i_goto 43), (42, i_psh (.int 3) 43), (43, i_msk [true, false] (i_ist 1 44)), (44, i_ald 0 45), (45, i_dup 46), (46, i_getI 8 4 49), (49, i_psh (.int 1) 50), (50, i_iadd 51), (51, i_putI 8 4 54), (54, i_ald 0 55), (55, i_cV 202 0 8 58), (58, i_msk [true, true] (i_ald 0 59)), (59, i_ild 1 60), (60, i_psh (.int 0) 61), (61, i_cV 205 2 8 64), (64, i_msk [true, false] (i_goto 4)), (67, i_msk [false, false] (i_ret))]
theorem cs201_0 : ∀ q ∈ cl201_0, Sd gd_mt M201 q.1 q.2 := gd_ac r201_0 (gd_ac r201_1 (gd_ac r201_4 (gd_ac r201_5 (gd_ac r201_8 (gd_ac r201_11 (gd_ac r201_12 (gd_ac r201_15 (gd_ac r201_17 (gd_ac r201_20 (gd_ac r201_21 (gd_ac r201_24 (gd_ac r201_26 (gd_ac r201_29 (gd_ac r201_30 (gd_ac r201_33 (gd_ac r201_35 (gd_ac r201_38 (gd_ac r201_39 (gd_ac r201_42 (gd_ac r201_43 (gd_ac r201_44 (gd_ac r201_45 (gd_ac r201_46 (gd_ac r201_49 (gd_ac r201_50 (gd_ac r201_51 (gd_ac r201_54 (gd_ac r201_55 (gd_ac r201_58 (gd_ac r201_59 (gd_ac r201_60 (gd_ac r201_61 (gd_ac r201_64 (gd_ac r201_67 (gd_an)))))))))))))))))))))))))))))))))))
def cd201 (pc : Nat) : gd_I := lkI cl201_0 pc
theorem cg201 : ∀ pc, Sd gd_mt M201 pc (cd201 pc) := sd_lk cs201_0
theorem r202_0 : Sd gd_mt M202 0 (i_ald 0 1) := sd_aload_n dX8_readProduct_0 rfl rfl
theorem r202_1 : Sd gd_mt M202 1 (i_cV 203 0 8 4) := sd_cV2 e203 cal203 q1721 q1723 (rfl : gd_cl 8 = some _) qs45 dX8_readProduct_1 rfl
theorem r202_4 : Sd gd_mt M202 4 (i_msk [true, false] (i_ald 0 5)) := sd_msk _ (sd_aload_n dX8_readProduct_4 rfl rfl)
theorem r202_5 : Sd gd_mt M202 5 (i_cV 185 0 8 8) := sd_cV2 e185 cal185 q1647 q1649 (rfl : gd_cl 8 = some _) qs32 dX8_readProduct_5 rfl
theorem r202_8 : Sd gd_mt M202 8 (i_msk [true, false] (i_ifeq 90 11)) := sd_msk _ (sd_ifeq dX8_readProduct_8 (by decide) rfl)
theorem r202_11 : Sd gd_mt M202 11 (i_ald 0 12) := sd_aload_n dX8_readProduct_11 rfl rfl
theorem r202_12 : Sd gd_mt M202 12 (i_cV 187 0 8 15) := sd_cV2 e187 cal187 q1655 q1657 (rfl : gd_cl 8 = some _) qs34 dX8_readProduct_12 rfl
theorem r202_15 : Sd gd_mt M202 15 (i_msk [true, false] (i_psh (.int 42) 17)) := sd_msk _ (sd_bipush dX8_readProduct_15 (by decide) rfl)
theorem r202_17 : Sd gd_mt M202 17 (i_iceq 38 20) := sd_iceq dX8_readProduct_17 (by decide) rfl
theorem r202_20 : Sd gd_mt M202 20 (i_ald 0 21) := sd_aload_n dX8_readProduct_20 rfl rfl
theorem r202_21 : Sd gd_mt M202 21 (i_cV 187 0 8 24) := sd_cV2 e187 cal187 q1655 q1657 (rfl : gd_cl 8 = some _) qs34 dX8_readProduct_21 rfl
theorem r202_24 : Sd gd_mt M202 24 (i_msk [true, false] (i_psh (.int 47) 26)) := sd_msk _ (sd_bipush dX8_readProduct_24 (by decide) rfl)
theorem r202_26 : Sd gd_mt M202 26 (i_iceq 38 29) := sd_iceq dX8_readProduct_26 (by decide) rfl
theorem r202_29 : Sd gd_mt M202 29 (i_ald 0 30) := sd_aload_n dX8_readProduct_29 rfl rfl
theorem r202_30 : Sd gd_mt M202 30 (i_cV 187 0 8 33) := sd_cV2 e187 cal187 q1655 q1657 (rfl : gd_cl 8 = some _) qs34 dX8_readProduct_30 rfl
theorem r202_33 : Sd gd_mt M202 33 (i_msk [true, false] (i_psh (.int 37) 35)) := sd_msk _ (sd_bipush dX8_readProduct_33 (by decide) rfl)
theorem r202_35 : Sd gd_mt M202 35 (i_icne 90 38) := sd_icne dX8_readProduct_35 (by decide) rfl
theorem r202_38 : Sd gd_mt M202 38 (i_msk [true, false] (i_ald 0 39)) := sd_msk _ (sd_aload_n dX8_readProduct_38 rfl rfl)
theorem r202_39 : Sd gd_mt M202 39 (i_cV 187 0 8 42) := sd_cV2 e187 cal187 q1655 q1657 (rfl : gd_cl 8 = some _) qs34 dX8_readProduct_39 rfl
theorem r202_42 : Sd gd_mt M202 42 (i_msk [true, false] (i_psh (.int 42) 44)) := sd_msk _ (sd_bipush dX8_readProduct_42 (by decide) rfl)
theorem r202_44 : Sd gd_mt M202 44 (i_icne 51 47) := sd_icne dX8_readProduct_44 (by decide) rfl
theorem r202_47 : Sd gd_mt M202 47 (i_psh (.int 4) 48) := sd_iconst dX8_readProduct_47 (by decide) rfl
theorem r202_48 : Sd gd_mt M202 48 (i_goto 66) := sd_goto dX8_readProduct_48 (by decide)
theorem r202_51 : Sd gd_mt M202 51 (i_ald 0 52) := sd_aload_n dX8_readProduct_51 rfl rfl
theorem r202_52 : Sd gd_mt M202 52 (i_cV 187 0 8 55) := sd_cV2 e187 cal187 q1655 q1657 (rfl : gd_cl 8 = some _) qs34 dX8_readProduct_52 rfl
theorem r202_55 : Sd gd_mt M202 55 (i_msk [true, false] (i_psh (.int 47) 57)) := sd_msk _ (sd_bipush dX8_readProduct_55 (by decide) rfl)
theorem r202_57 : Sd gd_mt M202 57 (i_icne 64 60) := sd_icne dX8_readProduct_57 (by decide) rfl
theorem r202_60 : Sd gd_mt M202 60 (i_psh (.int 5) 61) := sd_iconst dX8_readProduct_60 (by decide) rfl
theorem r202_61 : Sd gd_mt M202 61 (i_goto 66) := sd_goto dX8_readProduct_61 (by decide)
theorem r202_64 : Sd gd_mt M202 64 (i_psh (.int 8) 66) := sd_bipush dX8_readProduct_64 (by decide) rfl
theorem r202_66 : Sd gd_mt M202 66 (i_msk [true, false] (i_ist 1 67)) := sd_msk _ (sd_istore_n dX8_readProduct_66 rfl (by decide) rfl)
theorem r202_67 : Sd gd_mt M202 67 (i_ald 0 68) := sd_aload_n dX8_readProduct_67 rfl rfl
theorem r202_68 : Sd gd_mt M202 68 (i_dup 69) := sd_dup dX8_readProduct_68 rfl
theorem r202_69 : Sd gd_mt M202 69 (i_getI 8 4 72) := sd_getI ck8 (by decide) rfl (.inl q1458) dX8_readProduct_69 rfl
theorem r202_72 : Sd gd_mt M202 72 (i_psh (.int 1) 73) := sd_iconst dX8_readProduct_72 (by decide) rfl
theorem r202_73 : Sd gd_mt M202 73 (i_iadd 74) := sd_iadd dX8_readProduct_73 rfl
theorem r202_74 : Sd gd_mt M202 74 (i_putI 8 4 77) := sd_putI ck8 (by decide) rfl (.inl q1458) (.inl rfl) dX8_readProduct_74 rfl
theorem r202_77 : Sd gd_mt M202 77 (i_ald 0 78) := sd_aload_n dX8_readProduct_77 rfl rfl
theorem r202_78 : Sd gd_mt M202 78 (i_cV 203 0 8 81) := sd_cV2 e203 cal203 q1721 q1723 (rfl : gd_cl 8 = some _) qs45 dX8_readProduct_78 rfl
theorem r202_81 : Sd gd_mt M202 81 (i_msk [true, true] (i_ald 0 82)) := sd_msk _ (sd_aload_n dX8_readProduct_81 rfl rfl)
theorem r202_82 : Sd gd_mt M202 82 (i_ild 1 83) := sd_iload_n dX8_readProduct_82 rfl rfl
theorem r202_83 : Sd gd_mt M202 83 (i_psh (.int 0) 84) := sd_iconst dX8_readProduct_83 (by decide) rfl
theorem r202_84 : Sd gd_mt M202 84 (i_cV 205 2 8 87) := sd_cV2 e205 cal205 q1729 q1731 (rfl : gd_cl 8 = some _) qs47 dX8_readProduct_84 rfl
theorem r202_87 : Sd gd_mt M202 87 (i_msk [true, false] (i_goto 4)) := sd_msk _ (sd_goto dX8_readProduct_87 (by decide))
theorem r202_90 : Sd gd_mt M202 90 (i_msk [false, false] (i_ret)) := sd_msk _ (sd_ret rfl dX8_readProduct_90)
def cl202_0 : List (Nat × gd_I) := [(0, i_ald 0 1), (1, i_cV 203 0 8 4), (4, i_msk [true, false] (i_ald 0 5)), (5, i_cV 185 0 8 8), (8, i_msk [true, false] (i_ifeq 90 11)), (11, i_ald 0 12), (12, i_cV 187 0 8 15), (15, i_msk [true, false] (i_psh (.int 42) 17)), (17, i_iceq 38 20), (20, i_ald 0 21), (21, i_cV 187 0 8 24), (24, i_msk [true, false] (i_psh (.int 47) 26)), (26, i_iceq 38 29), (29, i_ald 0 30), (30, i_cV 187 0 8 33), (33, i_msk [true, false] (i_psh (.int 37) 35)), (35, i_icne 90 38), (38, i_msk [true, false] (i_ald 0 39)), (39, i_cV 187 0 8 42), (42, i_msk [true, false] (i_psh (.int 42) 44)), (44, i_icne 51 47), (47, i_psh (.int 4) 48), (48, i_goto 66), (51, i_ald 0 52), (52, i_cV 187 0 8 55), (55, i_msk [true, false] (i_psh (.int 47) 57)), (57, i_icne 64 60), (60, i_psh (.int 5) 61), (61, i_goto 66), (64, i_psh (.int 8) 66), (66, i_msk [true, false] (i_ist 1 67)), (67, i_ald 0 68), (68, i_dup 69), (69, i_getI 8 4 72), (72, i_psh (.int 1) 73), (73, i_iadd 74), (74, i_putI 8 4 77), (77, i_ald 0 78), (78, i_cV 203 0 8 81), (81, i_msk [true, true] (i_ald 0 82)), (82, i_ild 1 83), (83, i_psh (.int 0) 84), (84, i_cV 205 2 8 87), (87, i_msk [true, false] (i_goto 4)), (90, i_msk [false, false] (i_ret))]
theorem cs202_0 : ∀ q ∈ cl202_0, Sd gd_mt M202 q.1 q.2 := gd_ac r202_0 (gd_ac r202_1 (gd_ac r202_4 (gd_ac r202_5 (gd_ac r202_8 (gd_ac r202_11 (gd_ac r202_12 (gd_ac r202_15 (gd_ac r202_17 (gd_ac r202_20 (gd_ac r202_21 (gd_ac r202_24 (gd_ac r202_26 (gd_ac r202_29 (gd_ac r202_30 (gd_ac r202_33 (gd_ac r202_35 (gd_ac r202_38 (gd_ac r202_39 (gd_ac r202_42 (gd_ac r202_44 (gd_ac r202_47 (gd_ac r202_48 (gd_ac r202_51 (gd_ac r202_52 (gd_ac r202_55 (gd_ac r202_57 (gd_ac r202_60 (gd_ac r202_61 (gd_ac r202_64 (gd_ac r202_66 (gd_ac r202_67 (gd_ac r202_68 (gd_ac r202_69 (gd_ac r202_72 (gd_ac r202_73 (gd_ac r202_74 (gd_ac r202_77 (gd_ac r202_78 (gd_ac r202_81 (gd_ac r202_82 (gd_ac r202_83 (gd_ac r202_84 (gd_ac r202_87 (gd_ac r202_90 (gd_an)))))))))))))))))))))))))))))))))))))))))))))
def cd202 (pc : Nat) : gd_I := lkI cl202_0 pc
theorem cg202 : ∀ pc, Sd gd_mt M202 pc (cd202 pc) := sd_lk cs202_0
theorem r203_0 : Sd gd_mt M203 0 (i_ald 0 1) := sd_aload_n dX8_readUnit_0 rfl rfl
theorem r203_1 : Sd gd_mt M203 1 (i_cV 185 0 8 4) := sd_cV2 e185 cal185 q1647 q1649 (rfl : gd_cl 8 = some _) qs32 dX8_readUnit_1 rfl
theorem r203_4 : Sd gd_mt M203 4 (i_msk [true, false] (i_ifne 8 7)) := sd_msk _ (sd_ifne dX8_readUnit_4 (by decide) rfl)
theorem r203_7 : Sd gd_mt M203 7 (i_ret) := sd_ret rfl dX8_readUnit_7
theorem r203_8 : Sd gd_mt M203 8 (i_ald 0 9) := sd_aload_n dX8_readUnit_8 rfl rfl
theorem r203_9 : Sd gd_mt M203 9 (i_cV 187 0 8 12) := sd_cV2 e187 cal187 q1655 q1657 (rfl : gd_cl 8 = some _) qs34 dX8_readUnit_9 rfl
theorem r203_12 : Sd gd_mt M203 12 (i_msk [true, false] (i_psh (.int 40) 14)) := sd_msk _ (sd_bipush dX8_readUnit_12 (by decide) rfl)
theorem r203_14 : Sd gd_mt M203 14 (i_icne 45 17) := sd_icne dX8_readUnit_14 (by decide) rfl
theorem r203_17 : Sd gd_mt M203 17 (i_ald 0 18) := sd_aload_n dX8_readUnit_17 rfl rfl
theorem r203_18 : Sd gd_mt M203 18 (i_psh (.int 1) 19) := sd_iconst dX8_readUnit_18 (by decide) rfl
theorem r203_19 : Sd gd_mt M203 19 (i_cV 204 1 8 22) := sd_cV2 e204 cal204 q1725 q1727 (rfl : gd_cl 8 = some _) qs46 dX8_readUnit_19 rfl
theorem r203_22 : Sd gd_mt M203 22 (i_msk [true, false] (i_ald 0 23)) := sd_msk _ (sd_aload_n dX8_readUnit_22 rfl rfl)
theorem r203_23 : Sd gd_mt M203 23 (i_cV 201 0 8 26) := sd_cV2 e201 cal201 q1713 q1715 (rfl : gd_cl 8 = some _) qs43 dX8_readUnit_23 rfl
theorem r203_26 : Sd gd_mt M203 26 (i_msk [true, false] (i_ald 0 27)) := sd_msk _ (sd_aload_n dX8_readUnit_26 rfl rfl)
theorem r203_27 : Sd gd_mt M203 27 (i_psh (.int 41) 29) := sd_bipush dX8_readUnit_27 (by decide) rfl
theorem r203_29 : Sd gd_mt M203 29 (i_cV 198 1 8 32) := sd_cV2 e198 cal198 q1701 q1703 (rfl : gd_cl 8 = some _) qs41 dX8_readUnit_29 rfl
theorem r203_32 : Sd gd_mt M203 32 (i_msk [true, false] (i_ald 0 33)) := sd_msk _ (sd_aload_n dX8_readUnit_32 rfl rfl)
theorem r203_33 : Sd gd_mt M203 33 (i_dup 34) := sd_dup dX8_readUnit_33 rfl
theorem r203_34 : Sd gd_mt M203 34 (i_getI 8 7 37) := sd_getI ck8 (by decide) rfl (.inl q1461) dX8_readUnit_34 rfl
theorem r203_37 : Sd gd_mt M203 37 (i_psh (.int 1) 38) := sd_iconst dX8_readUnit_37 (by decide) rfl
theorem r203_38 : Sd gd_mt M203 38 (i_isub 39) := sd_isub dX8_readUnit_38 rfl
theorem r203_39 : Sd gd_mt M203 39 (i_putI 8 7 42) := sd_putI ck8 (by decide) rfl (.inl q1461) (.inl rfl) dX8_readUnit_39 rfl
theorem r203_42 : Sd gd_mt M203 42 (i_goto 154) := sd_goto dX8_readUnit_42 (by decide)
theorem r203_45 : Sd gd_mt M203 45 (i_ald 0 46) := sd_aload_n dX8_readUnit_45 rfl rfl
theorem r203_46 : Sd gd_mt M203 46 (i_cV 187 0 8 49) := sd_cV2 e187 cal187 q1655 q1657 (rfl : gd_cl 8 = some _) qs34 dX8_readUnit_46 rfl
theorem r203_49 : Sd gd_mt M203 49 (i_msk [true, false] (i_cS 196 1 52)) := sd_msk _ (sd_cS2 e196 cal196 q1694 q1695 dX8_readUnit_49 rfl)
theorem r203_52 : Sd gd_mt M203 52 (i_msk [true, false] (i_ifeq 71 55)) := sd_msk _ (sd_ifeq dX8_readUnit_52 (by decide) rfl)
theorem r203_55 : Sd gd_mt M203 55 (i_ald 0 56) := sd_aload_n dX8_readUnit_55 rfl rfl
theorem r203_56 : Sd gd_mt M203 56 (i_psh (.int 0) 57) := sd_iconst dX8_readUnit_56 (by decide) rfl
theorem r203_57 : Sd gd_mt M203 57 (i_ald 0 58) := sd_aload_n dX8_readUnit_57 rfl rfl
theorem r203_58 : Sd gd_mt M203 58 (i_psh (.int 0) 59) := sd_iconst dX8_readUnit_58 (by decide) rfl
theorem r203_59 : Sd gd_mt M203 59 (i_psh (.int 999) 62) := sd_sipush dX8_readUnit_59 (by decide) rfl
theorem r203_62 : Sd gd_mt M203 62 (i_cV 195 2 8 65) := sd_cV2 e195 cal195 q1690 q1692 (rfl : gd_cl 8 = some _) qs39 dX8_readUnit_62 rfl
theorem r203_65 : Sd gd_mt M203 65 (i_msk [false, false] (i_cV 205 2 8 68)) := sd_msk _ (sd_cV2 e205 cal205 q1729 q1731 (rfl : gd_cl 8 = some _) qs47 dX8_readUnit_65 rfl)
theorem r203_68 : Sd gd_mt M203 68 (i_msk [false, false] (i_goto 154)) := sd_msk _ (sd_goto dX8_readUnit_68 (by decide))
theorem r203_71 : Sd gd_mt M203 71 (i_ald 0 72) := sd_aload_n dX8_readUnit_71 rfl rfl
theorem r203_72 : Sd gd_mt M203 72 (i_cV 188 0 8 75) := sd_cV2 e188 cal188 q1659 q1661 (rfl : gd_cl 8 = some _) qs35 dX8_readUnit_72 rfl
theorem r203_75 : Sd gd_mt M203 75 (i_msk [true, false] (i_psh (.ref 60) 78)) := sd_msk _ (sd_ldcwS (n := 60) dX8_readUnit_75 (List.mem_of_getElem? (i := 26) rfl) (by decide) rfl)
theorem r203_78 : Sd gd_mt M203 78 (i_cS 191 1 81) := sd_cS2 e191 cal191 q1670 q1671 dX8_readUnit_78 rfl
theorem r203_81 : Sd gd_mt M203 81 (i_msk [true, false] (i_icne 94 84)) := sd_msk _ (sd_icne dX8_readUnit_81 (by decide) rfl)
theorem r203_84 : Sd gd_mt M203 84 (i_ald 0 85) := sd_aload_n dX8_readUnit_84 rfl rfl
theorem r203_85 : Sd gd_mt M203 85 (i_psh (.int 5) 86) := sd_iconst dX8_readUnit_85 (by decide) rfl
theorem r203_86 : Sd gd_mt M203 86 (i_psh (.int 6) 88) := sd_bipush dX8_readUnit_86 (by decide) rfl
theorem r203_88 : Sd gd_mt M203 88 (i_cV 206 2 8 91) := sd_cV2 e206 cal206 q1734 q1736 (rfl : gd_cl 8 = some _) qs48 dX8_readUnit_88 rfl
theorem r203_91 : Sd gd_mt M203 91 (i_msk [false, false] (i_goto 154)) := sd_msk _ (sd_goto dX8_readUnit_91 (by decide))
theorem r203_94 : Sd gd_mt M203 94 (i_ald 0 95) := sd_aload_n dX8_readUnit_94 rfl rfl
theorem r203_95 : Sd gd_mt M203 95 (i_cV 188 0 8 98) := sd_cV2 e188 cal188 q1659 q1661 (rfl : gd_cl 8 = some _) qs35 dX8_readUnit_95 rfl
theorem r203_98 : Sd gd_mt M203 98 (i_msk [true, false] (i_psh (.ref 62) 101)) := sd_msk _ (sd_ldcwS (n := 62) dX8_readUnit_98 (List.mem_of_getElem? (i := 27) rfl) (by decide) rfl)
def cl203_0 : List (Nat × gd_I) := [(0, i_ald 0 1), (1, i_cV 185 0 8 4), (4, i_msk [true, false] (i_ifne 8 7)), (7, i_ret), (8, i_ald 0 9), (9, i_cV 187 0 8 12), (12, i_msk [true, false] (i_psh (.int 40) 14)), (14, i_icne 45 17), (17, i_ald 0 18), (18, i_psh (.int 1) 19), (19, i_cV 204 1 8 22), (22, i_msk [true, false] (i_ald 0 23)), (23, i_cV 201 0 8 26), (26, i_msk [true, false] (i_ald 0 27)), (27, i_psh (.int 41) 29), (29, i_cV 198 1 8 32), (32, i_msk [true, false] (i_ald 0 33)), (33, i_dup 34), (34, i_getI 8 7 37), (37, i_psh (.int 1) 38), (38, i_isub 39), (39, i_putI 8 7 42), (42, i_goto 154), (45, i_ald 0 46), (46, i_cV 187 0 8 49), (49, i_msk [true, false] (i_cS 196 1 52)), (52, i_msk [true, false] (i_ifeq 71 55)), (55, i_ald 0 56), (56, i_psh (.int 0) 57), (57, i_ald 0 58), (58, i_psh (.int 0) 59), (59, i_psh (.int 999) 62), (62, i_cV 195 2 8 65), (65, i_msk [false, false] (i_cV 205 2 8 68)), (68, i_msk [false, false] (i_goto 154)), (71, i_ald 0 72), (72, i_cV 188 0 8 75), (75, i_msk [true, false] (i_psh (.ref 60) 78)), (78, i_cS 191 1 81), (81, i_msk [true, false] (i_icne 94 84)), (84, i_ald 0 85), (85, i_psh (.int 5) 86), (86, i_psh (.int 6) 88), (88, i_cV 206 2 8 91), (91, i_msk [false, false] (i_goto 154)), (94, i_ald 0 95), (95, i_cV 188 0 8 98), (98, i_msk [true, false] (i_psh (.ref 62) 101))]
theorem cs203_0 : ∀ q ∈ cl203_0, Sd gd_mt M203 q.1 q.2 := gd_ac r203_0 (gd_ac r203_1 (gd_ac r203_4 (gd_ac r203_7 (gd_ac r203_8 (gd_ac r203_9 (gd_ac r203_12 (gd_ac r203_14 (gd_ac r203_17 (gd_ac r203_18 (gd_ac r203_19 (gd_ac r203_22 (gd_ac r203_23 (gd_ac r203_26 (gd_ac r203_27 (gd_ac r203_29 (gd_ac r203_32 (gd_ac r203_33 (gd_ac r203_34 (gd_ac r203_37 (gd_ac r203_38 (gd_ac r203_39 (gd_ac r203_42 (gd_ac r203_45 (gd_ac r203_46 (gd_ac r203_49 (gd_ac r203_52 (gd_ac r203_55 (gd_ac r203_56 (gd_ac r203_57 (gd_ac r203_58 (gd_ac r203_59 (gd_ac r203_62 (gd_ac r203_65 (gd_ac r203_68 (gd_ac r203_71 (gd_ac r203_72 (gd_ac r203_75 (gd_ac r203_78 (gd_ac r203_81 (gd_ac r203_84 (gd_ac r203_85 (gd_ac r203_86 (gd_ac r203_88 (gd_ac r203_91 (gd_ac r203_94 (gd_ac r203_95 (gd_ac r203_98 (gd_an))))))))))))))))))))))))))))))))))))))))))))))))
theorem r203_101 : Sd gd_mt M203 101 (i_cS 191 1 104) := sd_cS2 e191 cal191 q1670 q1671 dX8_readUnit_101 rfl
theorem r203_104 : Sd gd_mt M203 104 (i_msk [true, false] (i_icne 117 107)) := sd_msk _ (sd_icne dX8_readUnit_104 (by decide) rfl)
theorem r203_107 : Sd gd_mt M203 107 (i_ald 0 108) := sd_aload_n dX8_readUnit_107 rfl rfl
theorem r203_108 : Sd gd_mt M203 108 (i_psh (.int 4) 109) := sd_iconst dX8_readUnit_108 (by decide) rfl
theorem r203_109 : Sd gd_mt M203 109 (i_psh (.int 7) 111) := sd_bipush dX8_readUnit_109 (by decide) rfl
theorem r203_111 : Sd gd_mt M203 111 (i_cV 206 2 8 114) := sd_cV2 e206 cal206 q1734 q1736 (rfl : gd_cl 8 = some _) qs48 dX8_readUnit_111 rfl
theorem r203_114 : Sd gd_mt M203 114 (i_msk [false, false] (i_goto 154)) := sd_msk _ (sd_goto dX8_readUnit_114 (by decide))
theorem r203_117 : Sd gd_mt M203 117 (i_ald 0 118) := sd_aload_n dX8_readUnit_117 rfl rfl
theorem r203_118 : Sd gd_mt M203 118 (i_cV 207 0 8 121) := sd_cV2 e207 cal207 q1739 q1741 (rfl : gd_cl 8 = some _) qs49 dX8_readUnit_118 rfl
theorem r203_121 : Sd gd_mt M203 121 (i_msk [true, false] (i_ist 1 122)) := sd_msk _ (sd_istore_n dX8_readUnit_121 rfl (by decide) rfl)
theorem r203_122 : Sd gd_mt M203 122 (i_ild 1 123) := sd_iload_n dX8_readUnit_122 rfl rfl
theorem r203_123 : Sd gd_mt M203 123 (i_psh (.int (-1)) 124) := sd_iconst dX8_readUnit_123 (by decide) rfl
theorem r203_124 : Sd gd_mt M203 124 (i_icne 136 127) := sd_icne dX8_readUnit_124 (by decide) rfl
theorem r203_127 : Sd gd_mt M203 127 (i_ald 0 128) := sd_aload_n dX8_readUnit_127 rfl rfl
theorem r203_128 : Sd gd_mt M203 128 (i_psh (.int 1) 129) := sd_iconst dX8_readUnit_128 (by decide) rfl
theorem r203_129 : Sd gd_mt M203 129 (i_ald 0 130) := sd_aload_n dX8_readUnit_129 rfl rfl
theorem r203_130 : Sd gd_mt M203 130 (i_getI 8 4 133) := sd_getI ck8 (by decide) rfl (.inl q1458) dX8_readUnit_130 rfl
theorem r203_133 : Sd gd_mt M203 133 (i_cV 192 2 8 136) := sd_cV2 e192 cal192 q1678 q1680 (rfl : gd_cl 8 = some _) qs36 dX8_readUnit_133 rfl
theorem r203_136 : Sd gd_mt M203 136 (i_msk [true, true] (i_ald 0 137)) := sd_msk _ (sd_aload_n dX8_readUnit_136 rfl rfl)
theorem r203_137 : Sd gd_mt M203 137 (i_cV 185 0 8 140) := sd_cV2 e185 cal185 q1647 q1649 (rfl : gd_cl 8 = some _) qs32 dX8_readUnit_137 rfl
theorem r203_140 : Sd gd_mt M203 140 (i_msk [true, true] (i_ifne 144 143)) := sd_msk _ (sd_ifne dX8_readUnit_140 (by decide) rfl)
theorem r203_143 : Sd gd_mt M203 143 (i_ret) := sd_ret rfl dX8_readUnit_143
theorem r203_144 : Sd gd_mt M203 144 (i_ald 0 145) := sd_aload_n dX8_readUnit_144 rfl rfl
theorem r203_145 : Sd gd_mt M203 145 (i_cV 193 0 8 148) := sd_cV2 e193 cal193 q1682 q1684 (rfl : gd_cl 8 = some _) qs37 dX8_readUnit_145 rfl
theorem r203_148 : Sd gd_mt M203 148 (i_msk [true, true] (i_ald 0 149)) := sd_msk _ (sd_aload_n dX8_readUnit_148 rfl rfl)
theorem r203_149 : Sd gd_mt M203 149 (i_psh (.int 1) 150) := sd_iconst dX8_readUnit_149 (by decide) rfl
theorem r203_150 : Sd gd_mt M203 150 (i_ild 1 151) := sd_iload_n dX8_readUnit_150 rfl rfl
theorem r203_151 : Sd gd_mt M203 151 (i_cV 205 2 8 154) := sd_cV2 e205 cal205 q1729 q1731 (rfl : gd_cl 8 = some _) qs47 dX8_readUnit_151 rfl
theorem r203_154 : Sd gd_mt M203 154 (i_msk [false, false] (i_ret)) := sd_msk _ (sd_ret rfl dX8_readUnit_154)
def cl203_1 : List (Nat × gd_I) := [(101, i_cS 191 1 104), (104, i_msk [true, false] (i_icne 117 107)), (107, i_ald 0 108), (108, i_psh (.int 4) 109), (109, i_psh (.int 7) 111), (111, i_cV 206 2 8 114), (114, i_msk [false, false] (i_goto 154)), (117, i_ald 0 118), (118, i_cV 207 0 8 121), (121, i_msk [true, false] (i_ist 1 122)), (122, i_ild 1 123), (123, i_psh (.int (-1)) 124), (124, i_icne 136 127), (127, i_ald 0 128), (128, i_psh (.int 1) 129), (129, i_ald 0 130), (130, i_getI 8 4 133), (133, i_cV 192 2 8 136), (136, i_msk [true, true] (i_ald 0 137)), (137, i_cV 185 0 8 140), (140, i_msk [true, true] (i_ifne 144 143)), (143, i_ret), (144, i_ald 0 145), (145, i_cV 193 0 8 148), (148, i_msk [true, true] (i_ald 0 149)), (149, i_psh (.int 1) 150), (150, i_ild 1 151), (151, i_cV 205 2 8 154), (154, i_msk [false, false] (i_ret))]
theorem cs203_1 : ∀ q ∈ cl203_1, Sd gd_mt M203 q.1 q.2 := gd_ac r203_101 (gd_ac r203_104 (gd_ac r203_107 (gd_ac r203_108 (gd_ac r203_109 (gd_ac r203_111 (gd_ac r203_114 (gd_ac r203_117 (gd_ac r203_118 (gd_ac r203_121 (gd_ac r203_122 (gd_ac r203_123 (gd_ac r203_124 (gd_ac r203_127 (gd_ac r203_128 (gd_ac r203_129 (gd_ac r203_130 (gd_ac r203_133 (gd_ac r203_136 (gd_ac r203_137 (gd_ac r203_140 (gd_ac r203_143 (gd_ac r203_144 (gd_ac r203_145 (gd_ac r203_148 (gd_ac r203_149 (gd_ac r203_150 (gd_ac r203_151 (gd_ac r203_154 (gd_an)))))))))))))))))))))))))))))
def cd203 (pc : Nat) : gd_I := if pc < 101 then lkI cl203_0 pc else lkI cl203_1 pc
theorem cg203 : ∀ pc, Sd gd_mt M203 pc (cd203 pc) := by
  intro pc
  unfold cd203
  by_cases h0 : pc < 101
  · rw [if_pos h0]; exact sd_lk cs203_0 pc
  rw [if_neg h0]
  exact sd_lk cs203_1 pc
theorem r204_0 : Sd gd_mt M204 0 (i_ald 0 1) := sd_aload_n dX8_opensOne_0 rfl rfl
theorem r204_1 : Sd gd_mt M204 1 (i_cV 185 0 8 4) := sd_cV2 e185 cal185 q1647 q1649 (rfl : gd_cl 8 = some _) qs32 dX8_opensOne_1 rfl
theorem r204_4 : Sd gd_mt M204 4 (i_msk [true, true] (i_ifeq 25 7)) := sd_msk _ (sd_ifeq dX8_opensOne_4 (by decide) rfl)
theorem r204_7 : Sd gd_mt M204 7 (i_ald 0 8) := sd_aload_n dX8_opensOne_7 rfl rfl
theorem r204_8 : Sd gd_mt M204 8 (i_getI 8 7 11) := sd_getI ck8 (by decide) rfl (.inl q1461) dX8_opensOne_8 rfl
theorem r204_11 : Sd gd_mt M204 11 (i_psh (.int 6) 13) := sd_bipush dX8_opensOne_11 (by decide) rfl
theorem r204_13 : Sd gd_mt M204 13 (i_icne 25 16) := sd_icne dX8_opensOne_13 (by decide) rfl
theorem r204_16 : Sd gd_mt M204 16 (i_ald 0 17) := sd_aload_n dX8_opensOne_16 rfl rfl
theorem r204_17 : Sd gd_mt M204 17 (i_psh (.int 3) 18) := sd_iconst dX8_opensOne_17 (by decide) rfl
theorem r204_18 : Sd gd_mt M204 18 (i_ald 0 19) := sd_aload_n dX8_opensOne_18 rfl rfl
theorem r204_19 : Sd gd_mt M204 19 (i_getI 8 4 22) := sd_getI ck8 (by decide) rfl (.inl q1458) dX8_opensOne_19 rfl
theorem r204_22 : Sd gd_mt M204 22 (i_cV 192 2 8 25) := sd_cV2 e192 cal192 q1678 q1680 (rfl : gd_cl 8 = some _) qs36 dX8_opensOne_22 rfl
theorem r204_25 : Sd gd_mt M204 25 (i_msk [true, true] (i_ald 0 26)) := sd_msk _ (sd_aload_n dX8_opensOne_25 rfl rfl)
theorem r204_26 : Sd gd_mt M204 26 (i_cV 185 0 8 29) := sd_cV2 e185 cal185 q1647 q1649 (rfl : gd_cl 8 = some _) qs32 dX8_opensOne_26 rfl
theorem r204_29 : Sd gd_mt M204 29 (i_msk [true, true] (i_ifeq 42 32)) := sd_msk _ (sd_ifeq dX8_opensOne_29 (by decide) rfl)
theorem r204_32 : Sd gd_mt M204 32 (i_ald 0 33) := sd_aload_n dX8_opensOne_32 rfl rfl
theorem r204_33 : Sd gd_mt M204 33 (i_dup 34) := sd_dup dX8_opensOne_33 rfl
theorem r204_34 : Sd gd_mt M204 34 (i_getI 8 4 37) := sd_getI ck8 (by decide) rfl (.inl q1458) dX8_opensOne_34 rfl
theorem r204_37 : Sd gd_mt M204 37 (i_ild 1 38) := sd_iload_n dX8_opensOne_37 rfl rfl
theorem r204_38 : Sd gd_mt M204 38 (i_iadd 39) := sd_iadd dX8_opensOne_38 rfl
theorem r204_39 : Sd gd_mt M204 39 (i_putI 8 4 42) := sd_putI ck8 (by decide) rfl (.inl q1458) (.inl rfl) dX8_opensOne_39 rfl
theorem r204_42 : Sd gd_mt M204 42 (i_msk [true, false] (i_ald 0 43)) := sd_msk _ (sd_aload_n dX8_opensOne_42 rfl rfl)
theorem r204_43 : Sd gd_mt M204 43 (i_dup 44) := sd_dup dX8_opensOne_43 rfl
theorem r204_44 : Sd gd_mt M204 44 (i_getI 8 7 47) := sd_getI ck8 (by decide) rfl (.inl q1461) dX8_opensOne_44 rfl
theorem r204_47 : Sd gd_mt M204 47 (i_psh (.int 1) 48) := sd_iconst dX8_opensOne_47 (by decide) rfl
theorem r204_48 : Sd gd_mt M204 48 (i_iadd 49) := sd_iadd dX8_opensOne_48 rfl
theorem r204_49 : Sd gd_mt M204 49 (i_putI 8 7 52) := sd_putI ck8 (by decide) rfl (.inl q1461) (.inl rfl) dX8_opensOne_49 rfl
theorem r204_52 : Sd gd_mt M204 52 (i_ret) := sd_ret rfl dX8_opensOne_52
def cl204_0 : List (Nat × gd_I) := [(0, i_ald 0 1), (1, i_cV 185 0 8 4), (4, i_msk [true, true] (i_ifeq 25 7)), (7, i_ald 0 8), (8, i_getI 8 7 11), (11, i_psh (.int 6) 13), (13, i_icne 25 16), (16, i_ald 0 17), (17, i_psh (.int 3) 18), (18, i_ald 0 19), (19, i_getI 8 4 22), (22, i_cV 192 2 8 25), (25, i_msk [true, true] (i_ald 0 26)), (26, i_cV 185 0 8 29), (29, i_msk [true, true] (i_ifeq 42 32)), (32, i_ald 0 33), (33, i_dup 34), (34, i_getI 8 4 37), (37, i_ild 1 38), (38, i_iadd 39), (39, i_putI 8 4 42), (42, i_msk [true, false] (i_ald 0 43)), (43, i_dup 44), (44, i_getI 8 7 47), (47, i_psh (.int 1) 48), (48, i_iadd 49), (49, i_putI 8 7 52), (52, i_ret)]
theorem cs204_0 : ∀ q ∈ cl204_0, Sd gd_mt M204 q.1 q.2 := gd_ac r204_0 (gd_ac r204_1 (gd_ac r204_4 (gd_ac r204_7 (gd_ac r204_8 (gd_ac r204_11 (gd_ac r204_13 (gd_ac r204_16 (gd_ac r204_17 (gd_ac r204_18 (gd_ac r204_19 (gd_ac r204_22 (gd_ac r204_25 (gd_ac r204_26 (gd_ac r204_29 (gd_ac r204_32 (gd_ac r204_33 (gd_ac r204_34 (gd_ac r204_37 (gd_ac r204_38 (gd_ac r204_39 (gd_ac r204_42 (gd_ac r204_43 (gd_ac r204_44 (gd_ac r204_47 (gd_ac r204_48 (gd_ac r204_49 (gd_ac r204_52 (gd_an))))))))))))))))))))))))))))
def cd204 (pc : Nat) : gd_I := lkI cl204_0 pc
theorem cg204 : ∀ pc, Sd gd_mt M204 pc (cd204 pc) := sd_lk cs204_0
theorem r205_0 : Sd gd_mt M205 0 (i_ald 0 1) := sd_aload_n dX8_emit_0 rfl rfl
theorem r205_1 : Sd gd_mt M205 1 (i_cV 185 0 8 4) := sd_cV2 e185 cal185 q1647 q1649 (rfl : gd_cl 8 = some _) qs32 dX8_emit_1 rfl
theorem r205_4 : Sd gd_mt M205 4 (i_msk [true, true, true] (i_ifne 8 7)) := sd_msk _ (sd_ifne dX8_emit_4 (by decide) rfl)
theorem r205_7 : Sd gd_mt M205 7 (i_ret) := sd_ret rfl dX8_emit_7
theorem r205_8 : Sd gd_mt M205 8 (i_ald 0 9) := sd_aload_n dX8_emit_8 rfl rfl
theorem r205_9 : Sd gd_mt M205 9 (i_getR 8 22 12) := sd_getR ck8 (by decide) rfl (.inl q1476) dX8_emit_9 rfl
theorem r205_12 : Sd gd_mt M205 12 (i_ald 0 13) := sd_aload_n dX8_emit_12 rfl rfl
theorem r205_13 : Sd gd_mt M205 13 (i_getI 8 27 16) := sd_getI ck8 (by decide) rfl (.inl q1481) dX8_emit_13 rfl
theorem r205_16 : Sd gd_mt M205 16 (i_ild 1 17) := sd_iload_n dX8_emit_16 rfl rfl
theorem r205_17 : Sd gd_mt M205 17 (i_astI 18) := sd_astI dX8_emit_17 rfl
theorem r205_18 : Sd gd_mt M205 18 (i_ald 0 19) := sd_aload_n dX8_emit_18 rfl rfl
theorem r205_19 : Sd gd_mt M205 19 (i_getR 8 23 22) := sd_getR ck8 (by decide) rfl (.inl q1477) dX8_emit_19 rfl
theorem r205_22 : Sd gd_mt M205 22 (i_ald 0 23) := sd_aload_n dX8_emit_22 rfl rfl
theorem r205_23 : Sd gd_mt M205 23 (i_getI 8 27 26) := sd_getI ck8 (by decide) rfl (.inl q1481) dX8_emit_23 rfl
theorem r205_26 : Sd gd_mt M205 26 (i_ild 2 27) := sd_iload_n dX8_emit_26 rfl rfl
theorem r205_27 : Sd gd_mt M205 27 (i_astI 28) := sd_astI dX8_emit_27 rfl
theorem r205_28 : Sd gd_mt M205 28 (i_ald 0 29) := sd_aload_n dX8_emit_28 rfl rfl
theorem r205_29 : Sd gd_mt M205 29 (i_dup 30) := sd_dup dX8_emit_29 rfl
theorem r205_30 : Sd gd_mt M205 30 (i_getI 8 27 33) := sd_getI ck8 (by decide) rfl (.inl q1481) dX8_emit_30 rfl
theorem r205_33 : Sd gd_mt M205 33 (i_psh (.int 1) 34) := sd_iconst dX8_emit_33 (by decide) rfl
theorem r205_34 : Sd gd_mt M205 34 (i_iadd 35) := sd_iadd dX8_emit_34 rfl
theorem r205_35 : Sd gd_mt M205 35 (i_putI 8 27 38) := sd_putI ck8 (by decide) rfl (.inl q1481) (.inl rfl) dX8_emit_35 rfl
theorem r205_38 : Sd gd_mt M205 38 (i_ret) := sd_ret rfl dX8_emit_38
def cl205_0 : List (Nat × gd_I) := [(0, i_ald 0 1), (1, i_cV 185 0 8 4), (4, i_msk [true, true, true] (i_ifne 8 7)), (7, i_ret), (8, i_ald 0 9), (9, i_getR 8 22 12), (12, i_ald 0 13), (13, i_getI 8 27 16), (16, i_ild 1 17), (17, i_astI 18), (18, i_ald 0 19), (19, i_getR 8 23 22), (22, i_ald 0 23), (23, i_getI 8 27 26), (26, i_ild 2 27), (27, i_astI 28), (28, i_ald 0 29), (29, i_dup 30), (30, i_getI 8 27 33), (33, i_psh (.int 1) 34), (34, i_iadd 35), (35, i_putI 8 27 38), (38, i_ret)]
theorem cs205_0 : ∀ q ∈ cl205_0, Sd gd_mt M205 q.1 q.2 := gd_ac r205_0 (gd_ac r205_1 (gd_ac r205_4 (gd_ac r205_7 (gd_ac r205_8 (gd_ac r205_9 (gd_ac r205_12 (gd_ac r205_13 (gd_ac r205_16 (gd_ac r205_17 (gd_ac r205_18 (gd_ac r205_19 (gd_ac r205_22 (gd_ac r205_23 (gd_ac r205_26 (gd_ac r205_27 (gd_ac r205_28 (gd_ac r205_29 (gd_ac r205_30 (gd_ac r205_33 (gd_ac r205_34 (gd_ac r205_35 (gd_ac r205_38 (gd_an)))))))))))))))))))))))
def cd205 (pc : Nat) : gd_I := lkI cl205_0 pc
theorem cg205 : ∀ pc, Sd gd_mt M205 pc (cd205 pc) := sd_lk cs205_0
theorem r206_0 : Sd gd_mt M206 0 (i_ald 0 1) := sd_aload_n dX8_readTwo_0 rfl rfl
theorem r206_1 : Sd gd_mt M206 1 (i_ild 1 2) := sd_iload_n dX8_readTwo_1 rfl rfl
theorem r206_2 : Sd gd_mt M206 2 (i_cV 204 1 8 5) := sd_cV2 e204 cal204 q1725 q1727 (rfl : gd_cl 8 = some _) qs46 dX8_readTwo_2 rfl
theorem r206_5 : Sd gd_mt M206 5 (i_msk [true, false, true] (i_ald 0 6)) := sd_msk _ (sd_aload_n dX8_readTwo_5 rfl rfl)
theorem r206_6 : Sd gd_mt M206 6 (i_psh (.int 91) 8) := sd_bipush dX8_readTwo_6 (by decide) rfl
theorem r206_8 : Sd gd_mt M206 8 (i_cV 198 1 8 11) := sd_cV2 e198 cal198 q1701 q1703 (rfl : gd_cl 8 = some _) qs41 dX8_readTwo_8 rfl
theorem r206_11 : Sd gd_mt M206 11 (i_msk [true, false, true] (i_ald 0 12)) := sd_msk _ (sd_aload_n dX8_readTwo_11 rfl rfl)
theorem r206_12 : Sd gd_mt M206 12 (i_cV 201 0 8 15) := sd_cV2 e201 cal201 q1713 q1715 (rfl : gd_cl 8 = some _) qs43 dX8_readTwo_12 rfl
theorem r206_15 : Sd gd_mt M206 15 (i_msk [true, false, true] (i_ald 0 16)) := sd_msk _ (sd_aload_n dX8_readTwo_15 rfl rfl)
theorem r206_16 : Sd gd_mt M206 16 (i_psh (.int 44) 18) := sd_bipush dX8_readTwo_16 (by decide) rfl
theorem r206_18 : Sd gd_mt M206 18 (i_cV 198 1 8 21) := sd_cV2 e198 cal198 q1701 q1703 (rfl : gd_cl 8 = some _) qs41 dX8_readTwo_18 rfl
theorem r206_21 : Sd gd_mt M206 21 (i_msk [true, false, true] (i_ald 0 22)) := sd_msk _ (sd_aload_n dX8_readTwo_21 rfl rfl)
theorem r206_22 : Sd gd_mt M206 22 (i_cV 201 0 8 25) := sd_cV2 e201 cal201 q1713 q1715 (rfl : gd_cl 8 = some _) qs43 dX8_readTwo_22 rfl
theorem r206_25 : Sd gd_mt M206 25 (i_msk [true, false, true] (i_ald 0 26)) := sd_msk _ (sd_aload_n dX8_readTwo_25 rfl rfl)
theorem r206_26 : Sd gd_mt M206 26 (i_psh (.int 93) 28) := sd_bipush dX8_readTwo_26 (by decide) rfl
theorem r206_28 : Sd gd_mt M206 28 (i_cV 198 1 8 31) := sd_cV2 e198 cal198 q1701 q1703 (rfl : gd_cl 8 = some _) qs41 dX8_readTwo_28 rfl
theorem r206_31 : Sd gd_mt M206 31 (i_msk [true, false, true] (i_ald 0 32)) := sd_msk _ (sd_aload_n dX8_readTwo_31 rfl rfl)
theorem r206_32 : Sd gd_mt M206 32 (i_dup 33) := sd_dup dX8_readTwo_32 rfl
theorem r206_33 : Sd gd_mt M206 33 (i_getI 8 7 36) := sd_getI ck8 (by decide) rfl (.inl q1461) dX8_readTwo_33 rfl
theorem r206_36 : Sd gd_mt M206 36 (i_psh (.int 1) 37) := sd_iconst dX8_readTwo_36 (by decide) rfl
theorem r206_37 : Sd gd_mt M206 37 (i_isub 38) := sd_isub dX8_readTwo_37 rfl
theorem r206_38 : Sd gd_mt M206 38 (i_putI 8 7 41) := sd_putI ck8 (by decide) rfl (.inl q1461) (.inl rfl) dX8_readTwo_38 rfl
theorem r206_41 : Sd gd_mt M206 41 (i_ald 0 42) := sd_aload_n dX8_readTwo_41 rfl rfl
theorem r206_42 : Sd gd_mt M206 42 (i_ild 2 43) := sd_iload_n dX8_readTwo_42 rfl rfl
theorem r206_43 : Sd gd_mt M206 43 (i_psh (.int 0) 44) := sd_iconst dX8_readTwo_43 (by decide) rfl
theorem r206_44 : Sd gd_mt M206 44 (i_cV 205 2 8 47) := sd_cV2 e205 cal205 q1729 q1731 (rfl : gd_cl 8 = some _) qs47 dX8_readTwo_44 rfl
theorem r206_47 : Sd gd_mt M206 47 (i_msk [false, false, false] (i_ret)) := sd_msk _ (sd_ret rfl dX8_readTwo_47)
def cl206_0 : List (Nat × gd_I) := [(0, i_ald 0 1), (1, i_ild 1 2), (2, i_cV 204 1 8 5), (5, i_msk [true, false, true] (i_ald 0 6)), (6, i_psh (.int 91) 8), (8, i_cV 198 1 8 11), (11, i_msk [true, false, true] (i_ald 0 12)), (12, i_cV 201 0 8 15), (15, i_msk [true, false, true] (i_ald 0 16)), (16, i_psh (.int 44) 18), (18, i_cV 198 1 8 21), (21, i_msk [true, false, true] (i_ald 0 22)), (22, i_cV 201 0 8 25), (25, i_msk [true, false, true] (i_ald 0 26)), (26, i_psh (.int 93) 28), (28, i_cV 198 1 8 31), (31, i_msk [true, false, true] (i_ald 0 32)), (32, i_dup 33), (33, i_getI 8 7 36), (36, i_psh (.int 1) 37), (37, i_isub 38), (38, i_putI 8 7 41), (41, i_ald 0 42), (42, i_ild 2 43), (43, i_psh (.int 0) 44), (44, i_cV 205 2 8 47), (47, i_msk [false, false, false] (i_ret))]
theorem cs206_0 : ∀ q ∈ cl206_0, Sd gd_mt M206 q.1 q.2 := gd_ac r206_0 (gd_ac r206_1 (gd_ac r206_2 (gd_ac r206_5 (gd_ac r206_6 (gd_ac r206_8 (gd_ac r206_11 (gd_ac r206_12 (gd_ac r206_15 (gd_ac r206_16 (gd_ac r206_18 (gd_ac r206_21 (gd_ac r206_22 (gd_ac r206_25 (gd_ac r206_26 (gd_ac r206_28 (gd_ac r206_31 (gd_ac r206_32 (gd_ac r206_33 (gd_ac r206_36 (gd_ac r206_37 (gd_ac r206_38 (gd_ac r206_41 (gd_ac r206_42 (gd_ac r206_43 (gd_ac r206_44 (gd_ac r206_47 (gd_an)))))))))))))))))))))))))))
def cd206 (pc : Nat) : gd_I := lkI cl206_0 pc
theorem cg206 : ∀ pc, Sd gd_mt M206 pc (cd206 pc) := sd_lk cs206_0
theorem r207_0 : Sd gd_mt M207 0 (i_ald 0 1) := sd_aload_n dX8_factHere_0 rfl rfl
theorem r207_1 : Sd gd_mt M207 1 (i_cV 188 0 8 4) := sd_cV2 e188 cal188 q1659 q1661 (rfl : gd_cl 8 = some _) qs35 dX8_factHere_1 rfl
theorem r207_4 : Sd gd_mt M207 4 (i_msk [false, false] (i_ist 1 5)) := sd_msk _ (sd_istore_n dX8_factHere_4 rfl (by decide) rfl)
theorem r207_5 : Sd gd_mt M207 5 (i_ild 1 6) := sd_iload_n dX8_factHere_5 rfl rfl
theorem r207_6 : Sd gd_mt M207 6 (i_psh (.ref 64) 9) := sd_ldcwS (n := 64) dX8_factHere_6 (List.mem_of_getElem? (i := 28) rfl) (by decide) rfl
theorem r207_9 : Sd gd_mt M207 9 (i_cS 191 1 12) := sd_cS2 e191 cal191 q1670 q1671 dX8_factHere_9 rfl
theorem r207_12 : Sd gd_mt M207 12 (i_msk [false, true] (i_icne 19 15)) := sd_msk _ (sd_icne dX8_factHere_12 (by decide) rfl)
theorem r207_15 : Sd gd_mt M207 15 (i_psh (.int 0) 16) := sd_iconst dX8_factHere_15 (by decide) rfl
theorem r207_16 : Sd gd_mt M207 16 (i_goto 117) := sd_goto dX8_factHere_16 (by decide)
theorem r207_19 : Sd gd_mt M207 19 (i_ild 1 20) := sd_iload_n dX8_factHere_19 rfl rfl
theorem r207_20 : Sd gd_mt M207 20 (i_psh (.ref 66) 23) := sd_ldcwS (n := 66) dX8_factHere_20 (List.mem_of_getElem? (i := 29) rfl) (by decide) rfl
theorem r207_23 : Sd gd_mt M207 23 (i_cS 191 1 26) := sd_cS2 e191 cal191 q1670 q1671 dX8_factHere_23 rfl
theorem r207_26 : Sd gd_mt M207 26 (i_msk [false, true] (i_icne 33 29)) := sd_msk _ (sd_icne dX8_factHere_26 (by decide) rfl)
theorem r207_29 : Sd gd_mt M207 29 (i_psh (.int 1) 30) := sd_iconst dX8_factHere_29 (by decide) rfl
theorem r207_30 : Sd gd_mt M207 30 (i_goto 117) := sd_goto dX8_factHere_30 (by decide)
theorem r207_33 : Sd gd_mt M207 33 (i_ild 1 34) := sd_iload_n dX8_factHere_33 rfl rfl
theorem r207_34 : Sd gd_mt M207 34 (i_psh (.ref 56) 36) := sd_ldcS (n := 56) dX8_factHere_34 (List.mem_of_getElem? (i := 24) rfl) (by decide) rfl
theorem r207_36 : Sd gd_mt M207 36 (i_cS 191 1 39) := sd_cS2 e191 cal191 q1670 q1671 dX8_factHere_36 rfl
theorem r207_39 : Sd gd_mt M207 39 (i_msk [false, true] (i_icne 46 42)) := sd_msk _ (sd_icne dX8_factHere_39 (by decide) rfl)
theorem r207_42 : Sd gd_mt M207 42 (i_psh (.int 2) 43) := sd_iconst dX8_factHere_42 (by decide) rfl
theorem r207_43 : Sd gd_mt M207 43 (i_goto 117) := sd_goto dX8_factHere_43 (by decide)
theorem r207_46 : Sd gd_mt M207 46 (i_ild 1 47) := sd_iload_n dX8_factHere_46 rfl rfl
theorem r207_47 : Sd gd_mt M207 47 (i_psh (.ref 58) 49) := sd_ldcS (n := 58) dX8_factHere_47 (List.mem_of_getElem? (i := 25) rfl) (by decide) rfl
theorem r207_49 : Sd gd_mt M207 49 (i_cS 191 1 52) := sd_cS2 e191 cal191 q1670 q1671 dX8_factHere_49 rfl
theorem r207_52 : Sd gd_mt M207 52 (i_msk [false, true] (i_icne 59 55)) := sd_msk _ (sd_icne dX8_factHere_52 (by decide) rfl)
theorem r207_55 : Sd gd_mt M207 55 (i_psh (.int 3) 56) := sd_iconst dX8_factHere_55 (by decide) rfl
theorem r207_56 : Sd gd_mt M207 56 (i_goto 117) := sd_goto dX8_factHere_56 (by decide)
theorem r207_59 : Sd gd_mt M207 59 (i_ild 1 60) := sd_iload_n dX8_factHere_59 rfl rfl
theorem r207_60 : Sd gd_mt M207 60 (i_psh (.ref 68) 63) := sd_ldcwS (n := 68) dX8_factHere_60 (List.mem_of_getElem? (i := 30) rfl) (by decide) rfl
theorem r207_63 : Sd gd_mt M207 63 (i_cS 191 1 66) := sd_cS2 e191 cal191 q1670 q1671 dX8_factHere_63 rfl
theorem r207_66 : Sd gd_mt M207 66 (i_msk [false, true] (i_icne 73 69)) := sd_msk _ (sd_icne dX8_factHere_66 (by decide) rfl)
theorem r207_69 : Sd gd_mt M207 69 (i_psh (.int 4) 70) := sd_iconst dX8_factHere_69 (by decide) rfl
theorem r207_70 : Sd gd_mt M207 70 (i_goto 117) := sd_goto dX8_factHere_70 (by decide)
theorem r207_73 : Sd gd_mt M207 73 (i_ild 1 74) := sd_iload_n dX8_factHere_73 rfl rfl
theorem r207_74 : Sd gd_mt M207 74 (i_psh (.ref 70) 77) := sd_ldcwS (n := 70) dX8_factHere_74 (List.mem_of_getElem? (i := 31) rfl) (by decide) rfl
theorem r207_77 : Sd gd_mt M207 77 (i_cS 191 1 80) := sd_cS2 e191 cal191 q1670 q1671 dX8_factHere_77 rfl
theorem r207_80 : Sd gd_mt M207 80 (i_msk [false, true] (i_icne 87 83)) := sd_msk _ (sd_icne dX8_factHere_80 (by decide) rfl)
theorem r207_83 : Sd gd_mt M207 83 (i_psh (.int 5) 84) := sd_iconst dX8_factHere_83 (by decide) rfl
theorem r207_84 : Sd gd_mt M207 84 (i_goto 117) := sd_goto dX8_factHere_84 (by decide)
theorem r207_87 : Sd gd_mt M207 87 (i_ild 1 88) := sd_iload_n dX8_factHere_87 rfl rfl
theorem r207_88 : Sd gd_mt M207 88 (i_psh (.ref 72) 91) := sd_ldcwS (n := 72) dX8_factHere_88 (List.mem_of_getElem? (i := 32) rfl) (by decide) rfl
theorem r207_91 : Sd gd_mt M207 91 (i_cS 191 1 94) := sd_cS2 e191 cal191 q1670 q1671 dX8_factHere_91 rfl
theorem r207_94 : Sd gd_mt M207 94 (i_msk [false, true] (i_icne 102 97)) := sd_msk _ (sd_icne dX8_factHere_94 (by decide) rfl)
theorem r207_97 : Sd gd_mt M207 97 (i_psh (.int 6) 99) := sd_bipush dX8_factHere_97 (by decide) rfl
theorem r207_99 : Sd gd_mt M207 99 (i_goto 117) := sd_goto dX8_factHere_99 (by decide)
theorem r207_102 : Sd gd_mt M207 102 (i_ild 1 103) := sd_iload_n dX8_factHere_102 rfl rfl
theorem r207_103 : Sd gd_mt M207 103 (i_psh (.ref 54) 105) := sd_ldcS (n := 54) dX8_factHere_103 (List.mem_of_getElem? (i := 23) rfl) (by decide) rfl
theorem r207_105 : Sd gd_mt M207 105 (i_cS 191 1 108) := sd_cS2 e191 cal191 q1670 q1671 dX8_factHere_105 rfl
def cl207_0 : List (Nat × gd_I) := [(0, i_ald 0 1), (1, i_cV 188 0 8 4), (4, i_msk [false, false] (i_ist 1 5)), (5, i_ild 1 6), (6, i_psh (.ref 64) 9), (9, i_cS 191 1 12), (12, i_msk [false, true] (i_icne 19 15)), (15, i_psh (.int 0) 16), (16, i_goto 117), (19, i_ild 1 20), (20, i_psh (.ref 66) 23), (23, i_cS 191 1 26), (26, i_msk [false, true] (i_icne 33 29)), (29, i_psh (.int 1) 30), (30, i_goto 117), (33, i_ild 1 34), (34, i_psh (.ref 56) 36), (36, i_cS 191 1 39), (39, i_msk [false, true] (i_icne 46 42)), (42, i_psh (.int 2) 43), (43, i_goto 117), (46, i_ild 1 47), (47, i_psh (.ref 58) 49), (49, i_cS 191 1 52), (52, i_msk [false, true] (i_icne 59 55)), (55, i_psh (.int 3) 56), (56, i_goto 117), (59, i_ild 1 60), (60, i_psh (.ref 68) 63), (63, i_cS 191 1 66), (66, i_msk [false, true] (i_icne 73 69)), (69, i_psh (.int 4) 70), (70, i_goto 117), (73, i_ild 1 74), (74, i_psh (.ref 70) 77), (77, i_cS 191 1 80), (80, i_msk [false, true] (i_icne 87 83)), (83, i_psh (.int 5) 84), (84, i_goto 117), (87, i_ild 1 88), (88, i_psh (.ref 72) 91), (91, i_cS 191 1 94), (94, i_msk [false, true] (i_icne 102 97)), (97, i_psh (.int 6) 99), (99, i_goto 117), (102, i_ild 1 103), (103, i_psh (.ref 54) 105), (105, i_cS 191 1 108)]
theorem cs207_0 : ∀ q ∈ cl207_0, Sd gd_mt M207 q.1 q.2 := gd_ac r207_0 (gd_ac r207_1 (gd_ac r207_4 (gd_ac r207_5 (gd_ac r207_6 (gd_ac r207_9 (gd_ac r207_12 (gd_ac r207_15 (gd_ac r207_16 (gd_ac r207_19 (gd_ac r207_20 (gd_ac r207_23 (gd_ac r207_26 (gd_ac r207_29 (gd_ac r207_30 (gd_ac r207_33 (gd_ac r207_34 (gd_ac r207_36 (gd_ac r207_39 (gd_ac r207_42 (gd_ac r207_43 (gd_ac r207_46 (gd_ac r207_47 (gd_ac r207_49 (gd_ac r207_52 (gd_ac r207_55 (gd_ac r207_56 (gd_ac r207_59 (gd_ac r207_60 (gd_ac r207_63 (gd_ac r207_66 (gd_ac r207_69 (gd_ac r207_70 (gd_ac r207_73 (gd_ac r207_74 (gd_ac r207_77 (gd_ac r207_80 (gd_ac r207_83 (gd_ac r207_84 (gd_ac r207_87 (gd_ac r207_88 (gd_ac r207_91 (gd_ac r207_94 (gd_ac r207_97 (gd_ac r207_99 (gd_ac r207_102 (gd_ac r207_103 (gd_ac r207_105 (gd_an))))))))))))))))))))))))))))))))))))))))))))))))
theorem r207_108 : Sd gd_mt M207 108 (i_msk [false, false] (i_icne 116 111)) := sd_msk _ (sd_icne dX8_factHere_108 (by decide) rfl)
theorem r207_111 : Sd gd_mt M207 111 (i_psh (.int 7) 113) := sd_bipush dX8_factHere_111 (by decide) rfl
theorem r207_113 : Sd gd_mt M207 113 (i_goto 117) := sd_goto dX8_factHere_113 (by decide)
theorem r207_116 : Sd gd_mt M207 116 (i_psh (.int (-1)) 117) := sd_iconst dX8_factHere_116 (by decide) rfl
theorem r207_117 : Sd gd_mt M207 117 (i_msk [false, false] (i_iret)) := sd_msk _ (sd_iret rfl dX8_factHere_117)
def cl207_1 : List (Nat × gd_I) := [(108, i_msk [false, false] (i_icne 116 111)), (111, i_psh (.int 7) 113), (113, i_goto 117), (116, i_psh (.int (-1)) 117), (117, i_msk [false, false] (i_iret))]
theorem cs207_1 : ∀ q ∈ cl207_1, Sd gd_mt M207 q.1 q.2 := gd_ac r207_108 (gd_ac r207_111 (gd_ac r207_113 (gd_ac r207_116 (gd_ac r207_117 (gd_an)))))
def cd207 (pc : Nat) : gd_I := if pc < 108 then lkI cl207_0 pc else lkI cl207_1 pc
theorem cg207 : ∀ pc, Sd gd_mt M207 pc (cd207 pc) := by
  intro pc
  unfold cd207
  by_cases h0 : pc < 108
  · rw [if_pos h0]; exact sd_lk cs207_0 pc
  rw [if_neg h0]
  exact sd_lk cs207_1 pc
theorem r208_0 : Sd gd_mt M208 0 (i_ald 0 1) := sd_aload_n dX8_work_0 rfl rfl
theorem r208_1 : Sd gd_mt M208 1 (i_psh (.int 0) 2) := sd_iconst dX8_work_1 (by decide) rfl
theorem r208_2 : Sd gd_mt M208 2 (i_putI 8 0 5) := sd_putI ck8 (by decide) rfl (.inl q1454) (.inl rfl) dX8_work_2 rfl
theorem r208_5 : Sd gd_mt M208 5 (i_ald 0 6) := sd_aload_n dX8_work_5 rfl rfl
theorem r208_6 : Sd gd_mt M208 6 (i_ild 1 7) := sd_iload_n dX8_work_6 rfl rfl
theorem r208_7 : Sd gd_mt M208 7 (i_iflt 29 10) := sd_iflt dX8_work_7 (by decide) rfl
theorem r208_10 : Sd gd_mt M208 10 (i_ild 1 11) := sd_iload_n dX8_work_10 rfl rfl
theorem r208_11 : Sd gd_mt M208 11 (i_ald 0 12) := sd_aload_n dX8_work_11 rfl rfl
theorem r208_12 : Sd gd_mt M208 12 (i_getI 8 2 15) := sd_getI ck8 (by decide) rfl (.inl q1456) dX8_work_12 rfl
theorem r208_15 : Sd gd_mt M208 15 (i_icgt 29 18) := sd_icgt dX8_work_15 (by decide) rfl
theorem r208_18 : Sd gd_mt M208 18 (i_ild 1 19) := sd_iload_n dX8_work_18 rfl rfl
theorem r208_19 : Sd gd_mt M208 19 (i_psh (.int 150) 22) := sd_sipush dX8_work_19 (by decide) rfl
theorem r208_22 : Sd gd_mt M208 22 (i_icgt 29 25) := sd_icgt dX8_work_22 (by decide) rfl
theorem r208_25 : Sd gd_mt M208 25 (i_psh (.int 1) 26) := sd_iconst dX8_work_25 (by decide) rfl
theorem r208_26 : Sd gd_mt M208 26 (i_goto 30) := sd_goto dX8_work_26 (by decide)
theorem r208_29 : Sd gd_mt M208 29 (i_msk [true, true, false, false] (i_psh (.int 0) 30)) := sd_msk _ (sd_iconst dX8_work_29 (by decide) rfl)
theorem r208_30 : Sd gd_mt M208 30 (i_msk [true, true, false, false] (i_psh (.int 1) 31)) := sd_msk _ (sd_iconst dX8_work_30 (by decide) rfl)
theorem r208_31 : Sd gd_mt M208 31 (i_psh (.int 1) 32) := sd_iconst dX8_work_31 (by decide) rfl
theorem r208_32 : Sd gd_mt M208 32 (i_cV 183 3 8 35) := sd_cV2 e183 cal183 q1639 q1641 (rfl : gd_cl 8 = some _) qs30 dX8_work_32 rfl
theorem r208_35 : Sd gd_mt M208 35 (i_msk [true, true, false, false] (i_ifne 40 38)) := sd_msk _ (sd_ifne dX8_work_35 (by decide) rfl)
theorem r208_38 : Sd gd_mt M208 38 (i_psh (.int 0) 39) := sd_iconst dX8_work_38 (by decide) rfl
theorem r208_39 : Sd gd_mt M208 39 (i_iret) := sd_iret rfl dX8_work_39
theorem r208_40 : Sd gd_mt M208 40 (i_ald 0 41) := sd_aload_n dX8_work_40 rfl rfl
theorem r208_41 : Sd gd_mt M208 41 (i_ild 1 42) := sd_iload_n dX8_work_41 rfl rfl
theorem r208_42 : Sd gd_mt M208 42 (i_cV 184 1 8 45) := sd_cV2 e184 cal184 q1643 q1645 (rfl : gd_cl 8 = some _) qs31 dX8_work_42 rfl
theorem r208_45 : Sd gd_mt M208 45 (i_msk [true, false, false, false] (i_ald 0 46)) := sd_msk _ (sd_aload_n dX8_work_45 rfl rfl)
theorem r208_46 : Sd gd_mt M208 46 (i_getI 8 33 49) := sd_getI ck8 (by decide) rfl (.inl q1487) dX8_work_46 rfl
theorem r208_49 : Sd gd_mt M208 49 (i_psh (.int 16) 51) := sd_bipush dX8_work_49 (by decide) rfl
theorem r208_51 : Sd gd_mt M208 51 (i_icne 63 54) := sd_icne dX8_work_51 (by decide) rfl
theorem r208_54 : Sd gd_mt M208 54 (i_ald 0 55) := sd_aload_n dX8_work_54 rfl rfl
theorem r208_55 : Sd gd_mt M208 55 (i_psh (.int 0) 56) := sd_iconst dX8_work_55 (by decide) rfl
theorem r208_56 : Sd gd_mt M208 56 (i_cV 199 1 8 59) := sd_cV2 e199 cal199 q1705 q1707 (rfl : gd_cl 8 = some _) qs42 dX8_work_56 rfl
theorem r208_59 : Sd gd_mt M208 59 (i_msk [false, false, false, false] (i_pop 60)) := sd_msk _ (sd_pop dX8_work_59 rfl)
theorem r208_60 : Sd gd_mt M208 60 (i_psh (.int (-20)) 62) := sd_bipush dX8_work_60 (by decide) rfl
theorem r208_62 : Sd gd_mt M208 62 (i_iret) := sd_iret rfl dX8_work_62
theorem r208_63 : Sd gd_mt M208 63 (i_ald 0 64) := sd_aload_n dX8_work_63 rfl rfl
theorem r208_64 : Sd gd_mt M208 64 (i_psh (.int 0) 65) := sd_iconst dX8_work_64 (by decide) rfl
theorem r208_65 : Sd gd_mt M208 65 (i_putI 8 32 68) := sd_putI ck8 (by decide) rfl (.inl q1486) (.inl rfl) dX8_work_65 rfl
theorem r208_68 : Sd gd_mt M208 68 (i_msk [true, false, false, false] (i_ald 0 69)) := sd_msk _ (sd_aload_n dX8_work_68 rfl rfl)
theorem r208_69 : Sd gd_mt M208 69 (i_cV 185 0 8 72) := sd_cV2 e185 cal185 q1647 q1649 (rfl : gd_cl 8 = some _) qs32 dX8_work_69 rfl
theorem r208_72 : Sd gd_mt M208 72 (i_msk [true, false, false, false] (i_ifeq 89 75)) := sd_msk _ (sd_ifeq dX8_work_72 (by decide) rfl)
theorem r208_75 : Sd gd_mt M208 75 (i_ald 0 76) := sd_aload_n dX8_work_75 rfl rfl
theorem r208_76 : Sd gd_mt M208 76 (i_cV 186 0 8 79) := sd_cV2 e186 cal186 q1651 q1653 (rfl : gd_cl 8 = some _) qs33 dX8_work_76 rfl
theorem r208_79 : Sd gd_mt M208 79 (i_msk [true, false, false, false] (i_ifeq 89 82)) := sd_msk _ (sd_ifeq dX8_work_79 (by decide) rfl)
theorem r208_82 : Sd gd_mt M208 82 (i_ald 0 83) := sd_aload_n dX8_work_82 rfl rfl
theorem r208_83 : Sd gd_mt M208 83 (i_cV 209 0 8 86) := sd_cV2 e209 cal209 q1752 q1754 (rfl : gd_cl 8 = some _) qs50 dX8_work_83 rfl
theorem r208_86 : Sd gd_mt M208 86 (i_msk [true, false, false, false] (i_goto 68)) := sd_msk _ (sd_goto dX8_work_86 (by decide))
theorem r208_89 : Sd gd_mt M208 89 (i_msk [true, false, false, false] (i_ald 0 90)) := sd_msk _ (sd_aload_n dX8_work_89 rfl rfl)
def cl208_0 : List (Nat × gd_I) := [(0, i_ald 0 1), (1, i_psh (.int 0) 2), (2, i_putI 8 0 5), (5, i_ald 0 6), (6, i_ild 1 7), (7, i_iflt 29 10), (10, i_ild 1 11), (11, i_ald 0 12), (12, i_getI 8 2 15), (15, i_icgt 29 18), (18, i_ild 1 19), (19, i_psh (.int 150) 22), (22, i_icgt 29 25), (25, i_psh (.int 1) 26), (26, i_goto 30), (29, i_msk [true, true, false, false] (i_psh (.int 0) 30)), (30, i_msk [true, true, false, false] (i_psh (.int 1) 31)), (31, i_psh (.int 1) 32), (32, i_cV 183 3 8 35), (35, i_msk [true, true, false, false] (i_ifne 40 38)), (38, i_psh (.int 0) 39), (39, i_iret), (40, i_ald 0 41), (41, i_ild 1 42), (42, i_cV 184 1 8 45), (45, i_msk [true, false, false, false] (i_ald 0 46)), (46, i_getI 8 33 49), (49, i_psh (.int 16) 51), (51, i_icne 63 54), (54, i_ald 0 55), (55, i_psh (.int 0) 56), (56, i_cV 199 1 8 59), (59, i_msk [false, false, false, false] (i_pop 60)), (60, i_psh (.int (-20)) 62), (62, i_iret), (63, i_ald 0 64), (64, i_psh (.int 0) 65), (65, i_putI 8 32 68), (68, i_msk [true, false, false, false] (i_ald 0 69)), (69, i_cV 185 0 8 72), (72, i_msk [true, false, false, false] (i_ifeq 89 75)), (75, i_ald 0 76), (76, i_cV 186 0 8 79), (79, i_msk [true, false, false, false] (i_ifeq 89 82)), (82, i_ald 0 83), (83, i_cV 209 0 8 86), (86, i_msk [true, false, false, false] (i_goto 68)), (89, i_msk [true, false, false, false] (i_ald 0 90))]
theorem cs208_0 : ∀ q ∈ cl208_0, Sd gd_mt M208 q.1 q.2 := gd_ac r208_0 (gd_ac r208_1 (gd_ac r208_2 (gd_ac r208_5 (gd_ac r208_6 (gd_ac r208_7 (gd_ac r208_10 (gd_ac r208_11 (gd_ac r208_12 (gd_ac r208_15 (gd_ac r208_18 (gd_ac r208_19 (gd_ac r208_22 (gd_ac r208_25 (gd_ac r208_26 (gd_ac r208_29 (gd_ac r208_30 (gd_ac r208_31 (gd_ac r208_32 (gd_ac r208_35 (gd_ac r208_38 (gd_ac r208_39 (gd_ac r208_40 (gd_ac r208_41 (gd_ac r208_42 (gd_ac r208_45 (gd_ac r208_46 (gd_ac r208_49 (gd_ac r208_51 (gd_ac r208_54 (gd_ac r208_55 (gd_ac r208_56 (gd_ac r208_59 (gd_ac r208_60 (gd_ac r208_62 (gd_ac r208_63 (gd_ac r208_64 (gd_ac r208_65 (gd_ac r208_68 (gd_ac r208_69 (gd_ac r208_72 (gd_ac r208_75 (gd_ac r208_76 (gd_ac r208_79 (gd_ac r208_82 (gd_ac r208_83 (gd_ac r208_86 (gd_ac r208_89 (gd_an))))))))))))))))))))))))))))))))))))))))))))))))
theorem r208_90 : Sd gd_mt M208 90 (i_psh (.int 0) 91) := sd_iconst dX8_work_90 (by decide) rfl
theorem r208_91 : Sd gd_mt M208 91 (i_cV 199 1 8 94) := sd_cV2 e199 cal199 q1705 q1707 (rfl : gd_cl 8 = some _) qs42 dX8_work_91 rfl
theorem r208_94 : Sd gd_mt M208 94 (i_msk [true, false, false, false] (i_ist 2 95)) := sd_msk _ (sd_istore_n dX8_work_94 rfl (by decide) rfl)
theorem r208_95 : Sd gd_mt M208 95 (i_ald 0 96) := sd_aload_n dX8_work_95 rfl rfl
theorem r208_96 : Sd gd_mt M208 96 (i_getI 8 5 99) := sd_getI ck8 (by decide) rfl (.inl q1459) dX8_work_96 rfl
theorem r208_99 : Sd gd_mt M208 99 (i_psh (.int (-1)) 100) := sd_iconst dX8_work_99 (by decide) rfl
theorem r208_100 : Sd gd_mt M208 100 (i_iceq 105 103) := sd_iceq dX8_work_100 (by decide) rfl
theorem r208_103 : Sd gd_mt M208 103 (i_ild 2 104) := sd_iload_n dX8_work_103 rfl rfl
theorem r208_104 : Sd gd_mt M208 104 (i_iret) := sd_iret rfl dX8_work_104
theorem r208_105 : Sd gd_mt M208 105 (i_ald 0 106) := sd_aload_n dX8_work_105 rfl rfl
theorem r208_106 : Sd gd_mt M208 106 (i_ald 0 107) := sd_aload_n dX8_work_106 rfl rfl
theorem r208_107 : Sd gd_mt M208 107 (i_getR 8 30 110) := sd_getR ck8 (by decide) rfl (.inl q1484) dX8_work_107 rfl
theorem r208_110 : Sd gd_mt M208 110 (i_ald 0 111) := sd_aload_n dX8_work_110 rfl rfl
theorem r208_111 : Sd gd_mt M208 111 (i_getR 8 31 114) := sd_getR ck8 (by decide) rfl (.inl q1485) dX8_work_111 rfl
theorem r208_114 : Sd gd_mt M208 114 (i_ald 0 115) := sd_aload_n dX8_work_114 rfl rfl
theorem r208_115 : Sd gd_mt M208 115 (i_getI 8 32 118) := sd_getI ck8 (by decide) rfl (.inl q1486) dX8_work_115 rfl
theorem r208_118 : Sd gd_mt M208 118 (i_cV 179 3 8 121) := sd_cV2 e179 cal179 q1450 q1452 (rfl : gd_cl 8 = some _) qs29 dX8_work_118 rfl
theorem r208_121 : Sd gd_mt M208 121 (i_msk [true, false, false, false] (i_psh (.int 0) 122)) := sd_msk _ (sd_iconst dX8_work_121 (by decide) rfl)
theorem r208_122 : Sd gd_mt M208 122 (i_ist 3 123) := sd_istore_n dX8_work_122 rfl (by decide) rfl
theorem r208_123 : Sd gd_mt M208 123 (i_msk [true, false, false, true] (i_ild 3 124)) := sd_msk _ (sd_iload_n dX8_work_123 rfl rfl)
theorem r208_124 : Sd gd_mt M208 124 (i_psh (.int 50) 126) := sd_bipush dX8_work_124 (by decide) rfl
theorem r208_126 : Sd gd_mt M208 126 (i_icge 155 129) := sd_icge dX8_work_126 (by decide) rfl
theorem r208_129 : Sd gd_mt M208 129 (i_ald 0 130) := sd_aload_n dX8_work_129 rfl rfl
theorem r208_130 : Sd gd_mt M208 130 (i_getR 8 40 133) := sd_getR ck8 (by decide) rfl (.inl q1494) dX8_work_130 rfl
theorem r208_133 : Sd gd_mt M208 133 (i_psh (.int 50) 135) := sd_bipush dX8_work_133 (by decide) rfl
theorem r208_135 : Sd gd_mt M208 135 (i_ald 0 136) := sd_aload_n dX8_work_135 rfl rfl
theorem r208_136 : Sd gd_mt M208 136 (i_getI 8 33 139) := sd_getI ck8 (by decide) rfl (.inl q1487) dX8_work_136 rfl
theorem r208_139 : Sd gd_mt M208 139 (i_imul 140) := sd_imul dX8_work_139 rfl
theorem r208_140 : Sd gd_mt M208 140 (i_ild 3 141) := sd_iload_n dX8_work_140 rfl rfl
theorem r208_141 : Sd gd_mt M208 141 (i_iadd 142) := sd_iadd dX8_work_141 rfl
theorem r208_142 : Sd gd_mt M208 142 (i_ald 0 143) := sd_aload_n dX8_work_142 rfl rfl
theorem r208_143 : Sd gd_mt M208 143 (i_getR 8 38 146) := sd_getR ck8 (by decide) rfl (.inl q1492) dX8_work_143 rfl
theorem r208_146 : Sd gd_mt M208 146 (i_ild 3 147) := sd_iload_n dX8_work_146 rfl rfl
theorem r208_147 : Sd gd_mt M208 147 (i_aldI 31 148) := sd_iald dX8_work_147 rfl
theorem r208_148 : Sd gd_mt M208 148 (i_astI 149) := sd_astI dX8_work_148 rfl
theorem r208_149 : Sd gd_mt M208 149 (i_inc 3 1 152) := sd_iinc dX8_work_149 (by decide) (by decide) rfl
theorem r208_152 : Sd gd_mt M208 152 (i_goto 123) := sd_goto dX8_work_152 (by decide)
theorem r208_155 : Sd gd_mt M208 155 (i_ald 0 156) := sd_aload_n dX8_work_155 rfl rfl
theorem r208_156 : Sd gd_mt M208 156 (i_dup 157) := sd_dup dX8_work_156 rfl
theorem r208_157 : Sd gd_mt M208 157 (i_getI 8 33 160) := sd_getI ck8 (by decide) rfl (.inl q1487) dX8_work_157 rfl
theorem r208_160 : Sd gd_mt M208 160 (i_psh (.int 1) 161) := sd_iconst dX8_work_160 (by decide) rfl
theorem r208_161 : Sd gd_mt M208 161 (i_iadd 162) := sd_iadd dX8_work_161 rfl
theorem r208_162 : Sd gd_mt M208 162 (i_putI 8 33 165) := sd_putI ck8 (by decide) rfl (.inl q1487) (.inl rfl) dX8_work_162 rfl
theorem r208_165 : Sd gd_mt M208 165 (i_ald 0 166) := sd_aload_n dX8_work_165 rfl rfl
theorem r208_166 : Sd gd_mt M208 166 (i_cV 211 0 8 169) := sd_cV2 e211 cal211 q1767 q1769 (rfl : gd_cl 8 = some _) qs52 dX8_work_166 rfl
theorem r208_169 : Sd gd_mt M208 169 (i_msk [true, false, false, false] (i_ald 0 170)) := sd_msk _ (sd_aload_n dX8_work_169 rfl rfl)
theorem r208_170 : Sd gd_mt M208 170 (i_psh (.int 0) 171) := sd_iconst dX8_work_170 (by decide) rfl
theorem r208_171 : Sd gd_mt M208 171 (i_putI 8 35 174) := sd_putI ck8 (by decide) rfl (.inl q1489) (.inl rfl) dX8_work_171 rfl
def cl208_1 : List (Nat × gd_I) := [(90, i_psh (.int 0) 91), (91, i_cV 199 1 8 94), (94, i_msk [true, false, false, false] (i_ist 2 95)), (95, i_ald 0 96), (96, i_getI 8 5 99), (99, i_psh (.int (-1)) 100), (100, i_iceq 105 103), (103, i_ild 2 104), (104, i_iret), (105, i_ald 0 106), (106, i_ald 0 107), (107, i_getR 8 30 110), (110, i_ald 0 111), (111, i_getR 8 31 114), (114, i_ald 0 115), (115, i_getI 8 32 118), (118, i_cV 179 3 8 121), (121, i_msk [true, false, false, false] (i_psh (.int 0) 122)), (122, i_ist 3 123), (123, i_msk [true, false, false, true] (i_ild 3 124)), (124, i_psh (.int 50) 126), (126, i_icge 155 129), (129, i_ald 0 130), (130, i_getR 8 40 133), (133, i_psh (.int 50) 135), (135, i_ald 0 136), (136, i_getI 8 33 139), (139, i_imul 140), (140, i_ild 3 141), (141, i_iadd 142), (142, i_ald 0 143), (143, i_getR 8 38 146), (146, i_ild 3 147), (147, i_aldI 31 148), (148, i_astI 149), (149, i_inc 3 1 152), (152, i_goto 123), (155, i_ald 0 156), (156, i_dup 157), (157, i_getI 8 33 160), (160, i_psh (.int 1) 161), (161, i_iadd 162), (162, i_putI 8 33 165), (165, i_ald 0 166), (166, i_cV 211 0 8 169), (169, i_msk [true, false, false, false] (i_ald 0 170)), (170, i_psh (.int 0) 171), (171, i_putI 8 35 174)]
theorem cs208_1 : ∀ q ∈ cl208_1, Sd gd_mt M208 q.1 q.2 := gd_ac r208_90 (gd_ac r208_91 (gd_ac r208_94 (gd_ac r208_95 (gd_ac r208_96 (gd_ac r208_99 (gd_ac r208_100 (gd_ac r208_103 (gd_ac r208_104 (gd_ac r208_105 (gd_ac r208_106 (gd_ac r208_107 (gd_ac r208_110 (gd_ac r208_111 (gd_ac r208_114 (gd_ac r208_115 (gd_ac r208_118 (gd_ac r208_121 (gd_ac r208_122 (gd_ac r208_123 (gd_ac r208_124 (gd_ac r208_126 (gd_ac r208_129 (gd_ac r208_130 (gd_ac r208_133 (gd_ac r208_135 (gd_ac r208_136 (gd_ac r208_139 (gd_ac r208_140 (gd_ac r208_141 (gd_ac r208_142 (gd_ac r208_143 (gd_ac r208_146 (gd_ac r208_147 (gd_ac r208_148 (gd_ac r208_149 (gd_ac r208_152 (gd_ac r208_155 (gd_ac r208_156 (gd_ac r208_157 (gd_ac r208_160 (gd_ac r208_161 (gd_ac r208_162 (gd_ac r208_165 (gd_ac r208_166 (gd_ac r208_169 (gd_ac r208_170 (gd_ac r208_171 (gd_an))))))))))))))))))))))))))))))))))))))))))))))))
theorem r208_174 : Sd gd_mt M208 174 (i_ald 0 175) := sd_aload_n dX8_work_174 rfl rfl
theorem r208_175 : Sd gd_mt M208 175 (i_psh (.int 0) 176) := sd_iconst dX8_work_175 (by decide) rfl
theorem r208_176 : Sd gd_mt M208 176 (i_putI 8 36 179) := sd_putI ck8 (by decide) rfl (.inl q1490) (.inl rfl) dX8_work_176 rfl
theorem r208_179 : Sd gd_mt M208 179 (i_ald 0 180) := sd_aload_n dX8_work_179 rfl rfl
theorem r208_180 : Sd gd_mt M208 180 (i_psh (.int 0) 181) := sd_iconst dX8_work_180 (by decide) rfl
theorem r208_181 : Sd gd_mt M208 181 (i_putI 8 37 184) := sd_putI ck8 (by decide) rfl (.inl q1491) (.inl rfl) dX8_work_181 rfl
theorem r208_184 : Sd gd_mt M208 184 (i_ald 0 185) := sd_aload_n dX8_work_184 rfl rfl
theorem r208_185 : Sd gd_mt M208 185 (i_psh (.int 0) 186) := sd_iconst dX8_work_185 (by decide) rfl
theorem r208_186 : Sd gd_mt M208 186 (i_ald 0 187) := sd_aload_n dX8_work_186 rfl rfl
theorem r208_187 : Sd gd_mt M208 187 (i_getI 8 32 190) := sd_getI ck8 (by decide) rfl (.inl q1486) dX8_work_187 rfl
theorem r208_190 : Sd gd_mt M208 190 (i_cV 212 2 8 193) := sd_cV2 e212 cal212 q1771 q1773 (rfl : gd_cl 8 = some _) qs53 dX8_work_190 rfl
theorem r208_193 : Sd gd_mt M208 193 (i_msk [true, false, false, false] (i_ald 0 194)) := sd_msk _ (sd_aload_n dX8_work_193 rfl rfl)
theorem r208_194 : Sd gd_mt M208 194 (i_ald 0 195) := sd_aload_n dX8_work_194 rfl rfl
theorem r208_195 : Sd gd_mt M208 195 (i_getR 8 39 198) := sd_getR ck8 (by decide) rfl (.inl q1493) dX8_work_195 rfl
theorem r208_198 : Sd gd_mt M208 198 (i_ald 0 199) := sd_aload_n dX8_work_198 rfl rfl
theorem r208_199 : Sd gd_mt M208 199 (i_getR 8 38 202) := sd_getR ck8 (by decide) rfl (.inl q1492) dX8_work_199 rfl
theorem r208_202 : Sd gd_mt M208 202 (i_psh (.int 50) 204) := sd_bipush dX8_work_202 (by decide) rfl
theorem r208_204 : Sd gd_mt M208 204 (i_cV 179 3 8 207) := sd_cV2 e179 cal179 q1450 q1452 (rfl : gd_cl 8 = some _) qs29 dX8_work_204 rfl
theorem r208_207 : Sd gd_mt M208 207 (i_msk [true, false, false, false] (i_ald 0 208)) := sd_msk _ (sd_aload_n dX8_work_207 rfl rfl)
theorem r208_208 : Sd gd_mt M208 208 (i_ald 0 209) := sd_aload_n dX8_work_208 rfl rfl
theorem r208_209 : Sd gd_mt M208 209 (i_getI 8 37 212) := sd_getI ck8 (by decide) rfl (.inl q1491) dX8_work_209 rfl
theorem r208_212 : Sd gd_mt M208 212 (i_putI 8 34 215) := sd_putI ck8 (by decide) rfl (.inl q1488) (.inl rfl) dX8_work_212 rfl
theorem r208_215 : Sd gd_mt M208 215 (i_ald 0 216) := sd_aload_n dX8_work_215 rfl rfl
theorem r208_216 : Sd gd_mt M208 216 (i_getI 8 36 219) := sd_getI ck8 (by decide) rfl (.inl q1490) dX8_work_216 rfl
theorem r208_219 : Sd gd_mt M208 219 (i_iret) := sd_iret rfl dX8_work_219
def cl208_2 : List (Nat × gd_I) := [(174, i_ald 0 175), (175, i_psh (.int 0) 176), (176, i_putI 8 36 179), (179, i_ald 0 180), (180, i_psh (.int 0) 181), (181, i_putI 8 37 184), (184, i_ald 0 185), (185, i_psh (.int 0) 186), (186, i_ald 0 187), (187, i_getI 8 32 190), (190, i_cV 212 2 8 193), (193, i_msk [true, false, false, false] (i_ald 0 194)), (194, i_ald 0 195), (195, i_getR 8 39 198), (198, i_ald 0 199), (199, i_getR 8 38 202), (202, i_psh (.int 50) 204), (204, i_cV 179 3 8 207), (207, i_msk [true, false, false, false] (i_ald 0 208)), (208, i_ald 0 209), (209, i_getI 8 37 212), (212, i_putI 8 34 215), (215, i_ald 0 216), (216, i_getI 8 36 219), (219, i_iret)]
theorem cs208_2 : ∀ q ∈ cl208_2, Sd gd_mt M208 q.1 q.2 := gd_ac r208_174 (gd_ac r208_175 (gd_ac r208_176 (gd_ac r208_179 (gd_ac r208_180 (gd_ac r208_181 (gd_ac r208_184 (gd_ac r208_185 (gd_ac r208_186 (gd_ac r208_187 (gd_ac r208_190 (gd_ac r208_193 (gd_ac r208_194 (gd_ac r208_195 (gd_ac r208_198 (gd_ac r208_199 (gd_ac r208_202 (gd_ac r208_204 (gd_ac r208_207 (gd_ac r208_208 (gd_ac r208_209 (gd_ac r208_212 (gd_ac r208_215 (gd_ac r208_216 (gd_ac r208_219 (gd_an)))))))))))))))))))))))))
def cd208 (pc : Nat) : gd_I := if pc < 90 then lkI cl208_0 pc else if pc < 174 then lkI cl208_1 pc else lkI cl208_2 pc
theorem cg208 : ∀ pc, Sd gd_mt M208 pc (cd208 pc) := by
  intro pc
  unfold cd208
  by_cases h0 : pc < 90
  · rw [if_pos h0]; exact sd_lk cs208_0 pc
  rw [if_neg h0]
  by_cases h1 : pc < 174
  · rw [if_pos h1]; exact sd_lk cs208_1 pc
  rw [if_neg h1]
  exact sd_lk cs208_2 pc
theorem r209_0 : Sd gd_mt M209 0 (i_ald 0 1) := sd_aload_n dX8_readStep_0 rfl rfl
theorem r209_1 : Sd gd_mt M209 1 (i_cV 188 0 8 4) := sd_cV2 e188 cal188 q1659 q1661 (rfl : gd_cl 8 = some _) qs35 dX8_readStep_1 rfl
theorem r209_4 : Sd gd_mt M209 4 (i_msk [true, false, false, false] (i_ist 1 5)) := sd_msk _ (sd_istore_n dX8_readStep_4 rfl (by decide) rfl)
theorem r209_5 : Sd gd_mt M209 5 (i_ild 1 6) := sd_iload_n dX8_readStep_5 rfl rfl
theorem r209_6 : Sd gd_mt M209 6 (i_psh (.ref 70) 9) := sd_ldcwS (n := 70) dX8_readStep_6 (List.mem_of_getElem? (i := 31) rfl) (by decide) rfl
theorem r209_9 : Sd gd_mt M209 9 (i_cS 191 1 12) := sd_cS2 e191 cal191 q1670 q1671 dX8_readStep_9 rfl
theorem r209_12 : Sd gd_mt M209 12 (i_msk [true, true, false, false] (i_icne 30 15)) := sd_msk _ (sd_icne dX8_readStep_12 (by decide) rfl)
theorem r209_15 : Sd gd_mt M209 15 (i_ald 0 16) := sd_aload_n dX8_readStep_15 rfl rfl
theorem r209_16 : Sd gd_mt M209 16 (i_cV 193 0 8 19) := sd_cV2 e193 cal193 q1682 q1684 (rfl : gd_cl 8 = some _) qs37 dX8_readStep_16 rfl
theorem r209_19 : Sd gd_mt M209 19 (i_msk [true, false, false, false] (i_ald 0 20)) := sd_msk _ (sd_aload_n dX8_readStep_19 rfl rfl)
theorem r209_20 : Sd gd_mt M209 20 (i_psh (.int 6) 22) := sd_bipush dX8_readStep_20 (by decide) rfl
theorem r209_22 : Sd gd_mt M209 22 (i_psh (.int 0) 23) := sd_iconst dX8_readStep_22 (by decide) rfl
theorem r209_23 : Sd gd_mt M209 23 (i_psh (.int 0) 24) := sd_iconst dX8_readStep_23 (by decide) rfl
theorem r209_24 : Sd gd_mt M209 24 (i_cV 210 3 8 27) := sd_cV2 e210 cal210 q1756 q1758 (rfl : gd_cl 8 = some _) qs51 dX8_readStep_24 rfl
theorem r209_27 : Sd gd_mt M209 27 (i_msk [true, false, false, false] (i_goto 338)) := sd_msk _ (sd_goto dX8_readStep_27 (by decide))
theorem r209_30 : Sd gd_mt M209 30 (i_ild 1 31) := sd_iload_n dX8_readStep_30 rfl rfl
theorem r209_31 : Sd gd_mt M209 31 (i_psh (.ref 74) 34) := sd_ldcwS (n := 74) dX8_readStep_31 (List.mem_of_getElem? (i := 33) rfl) (by decide) rfl
theorem r209_34 : Sd gd_mt M209 34 (i_cS 191 1 37) := sd_cS2 e191 cal191 q1670 q1671 dX8_readStep_34 rfl
theorem r209_37 : Sd gd_mt M209 37 (i_msk [true, true, false, false] (i_iceq 60 40)) := sd_msk _ (sd_iceq dX8_readStep_37 (by decide) rfl)
theorem r209_40 : Sd gd_mt M209 40 (i_ild 1 41) := sd_iload_n dX8_readStep_40 rfl rfl
theorem r209_41 : Sd gd_mt M209 41 (i_psh (.ref 76) 44) := sd_ldcwS (n := 76) dX8_readStep_41 (List.mem_of_getElem? (i := 34) rfl) (by decide) rfl
theorem r209_44 : Sd gd_mt M209 44 (i_cS 191 1 47) := sd_cS2 e191 cal191 q1670 q1671 dX8_readStep_44 rfl
theorem r209_47 : Sd gd_mt M209 47 (i_msk [true, true, false, false] (i_iceq 60 50)) := sd_msk _ (sd_iceq dX8_readStep_47 (by decide) rfl)
theorem r209_50 : Sd gd_mt M209 50 (i_ild 1 51) := sd_iload_n dX8_readStep_50 rfl rfl
theorem r209_51 : Sd gd_mt M209 51 (i_psh (.ref 78) 54) := sd_ldcwS (n := 78) dX8_readStep_51 (List.mem_of_getElem? (i := 35) rfl) (by decide) rfl
theorem r209_54 : Sd gd_mt M209 54 (i_cS 191 1 57) := sd_cS2 e191 cal191 q1670 q1671 dX8_readStep_54 rfl
theorem r209_57 : Sd gd_mt M209 57 (i_msk [true, true, false, false] (i_icne 112 60)) := sd_msk _ (sd_icne dX8_readStep_57 (by decide) rfl)
theorem r209_60 : Sd gd_mt M209 60 (i_msk [true, true, false, false] (i_ald 0 61)) := sd_msk _ (sd_aload_n dX8_readStep_60 rfl rfl)
theorem r209_61 : Sd gd_mt M209 61 (i_cV 193 0 8 64) := sd_cV2 e193 cal193 q1682 q1684 (rfl : gd_cl 8 = some _) qs37 dX8_readStep_61 rfl
theorem r209_64 : Sd gd_mt M209 64 (i_msk [true, true, false, false] (i_ald 0 65)) := sd_msk _ (sd_aload_n dX8_readStep_64 rfl rfl)
theorem r209_65 : Sd gd_mt M209 65 (i_ild 1 66) := sd_iload_n dX8_readStep_65 rfl rfl
theorem r209_66 : Sd gd_mt M209 66 (i_psh (.ref 74) 69) := sd_ldcwS (n := 74) dX8_readStep_66 (List.mem_of_getElem? (i := 33) rfl) (by decide) rfl
theorem r209_69 : Sd gd_mt M209 69 (i_cS 191 1 72) := sd_cS2 e191 cal191 q1670 q1671 dX8_readStep_69 rfl
theorem r209_72 : Sd gd_mt M209 72 (i_msk [true, true, false, false] (i_icne 79 75)) := sd_msk _ (sd_icne dX8_readStep_72 (by decide) rfl)
theorem r209_75 : Sd gd_mt M209 75 (i_psh (.int 0) 76) := sd_iconst dX8_readStep_75 (by decide) rfl
theorem r209_76 : Sd gd_mt M209 76 (i_goto 94) := sd_goto dX8_readStep_76 (by decide)
theorem r209_79 : Sd gd_mt M209 79 (i_ild 1 80) := sd_iload_n dX8_readStep_79 rfl rfl
theorem r209_80 : Sd gd_mt M209 80 (i_psh (.ref 76) 83) := sd_ldcwS (n := 76) dX8_readStep_80 (List.mem_of_getElem? (i := 34) rfl) (by decide) rfl
theorem r209_83 : Sd gd_mt M209 83 (i_cS 191 1 86) := sd_cS2 e191 cal191 q1670 q1671 dX8_readStep_83 rfl
theorem r209_86 : Sd gd_mt M209 86 (i_msk [true, false, false, false] (i_icne 93 89)) := sd_msk _ (sd_icne dX8_readStep_86 (by decide) rfl)
theorem r209_89 : Sd gd_mt M209 89 (i_psh (.int 4) 90) := sd_iconst dX8_readStep_89 (by decide) rfl
theorem r209_90 : Sd gd_mt M209 90 (i_goto 94) := sd_goto dX8_readStep_90 (by decide)
theorem r209_93 : Sd gd_mt M209 93 (i_psh (.int 5) 94) := sd_iconst dX8_readStep_93 (by decide) rfl
theorem r209_94 : Sd gd_mt M209 94 (i_msk [true, false, false, false] (i_ald 0 95)) := sd_msk _ (sd_aload_n dX8_readStep_94 rfl rfl)
theorem r209_95 : Sd gd_mt M209 95 (i_psh (.int 0) 96) := sd_iconst dX8_readStep_95 (by decide) rfl
theorem r209_96 : Sd gd_mt M209 96 (i_ald 0 97) := sd_aload_n dX8_readStep_96 rfl rfl
theorem r209_97 : Sd gd_mt M209 97 (i_getI 8 21 100) := sd_getI ck8 (by decide) rfl (.inl q1475) dX8_readStep_97 rfl
theorem r209_100 : Sd gd_mt M209 100 (i_psh (.int 1) 101) := sd_iconst dX8_readStep_100 (by decide) rfl
def cl209_0 : List (Nat × gd_I) := [(0, i_ald 0 1), (1, i_cV 188 0 8 4), (4, i_msk [true, false, false, false] (i_ist 1 5)), (5, i_ild 1 6), (6, i_psh (.ref 70) 9), (9, i_cS 191 1 12), (12, i_msk [true, true, false, false] (i_icne 30 15)), (15, i_ald 0 16), (16, i_cV 193 0 8 19), (19, i_msk [true, false, false, false] (i_ald 0 20)), (20, i_psh (.int 6) 22), (22, i_psh (.int 0) 23), (23, i_psh (.int 0) 24), (24, i_cV 210 3 8 27), (27, i_msk [true, false, false, false] (i_goto 338)), (30, i_ild 1 31), (31, i_psh (.ref 74) 34), (34, i_cS 191 1 37), (37, i_msk [true, true, false, false] (i_iceq 60 40)), (40, i_ild 1 41), (41, i_psh (.ref 76) 44), (44, i_cS 191 1 47), (47, i_msk [true, true, false, false] (i_iceq 60 50)), (50, i_ild 1 51), (51, i_psh (.ref 78) 54), (54, i_cS 191 1 57), (57, i_msk [true, true, false, false] (i_icne 112 60)), (60, i_msk [true, true, false, false] (i_ald 0 61)), (61, i_cV 193 0 8 64), (64, i_msk [true, true, false, false] (i_ald 0 65)), (65, i_ild 1 66), (66, i_psh (.ref 74) 69), (69, i_cS 191 1 72), (72, i_msk [true, true, false, false] (i_icne 79 75)), (75, i_psh (.int 0) 76), (76, i_goto 94), (79, i_ild 1 80), (80, i_psh (.ref 76) 83), (83, i_cS 191 1 86), (86, i_msk [true, false, false, false] (i_icne 93 89)), (89, i_psh (.int 4) 90), (90, i_goto 94), (93, i_psh (.int 5) 94), (94, i_msk [true, false, false, false] (i_ald 0 95)), (95, i_psh (.int 0) 96), (96, i_ald 0 97), (97, i_getI 8 21 100), (100, i_psh (.int 1) 101)]
theorem cs209_0 : ∀ q ∈ cl209_0, Sd gd_mt M209 q.1 q.2 := gd_ac r209_0 (gd_ac r209_1 (gd_ac r209_4 (gd_ac r209_5 (gd_ac r209_6 (gd_ac r209_9 (gd_ac r209_12 (gd_ac r209_15 (gd_ac r209_16 (gd_ac r209_19 (gd_ac r209_20 (gd_ac r209_22 (gd_ac r209_23 (gd_ac r209_24 (gd_ac r209_27 (gd_ac r209_30 (gd_ac r209_31 (gd_ac r209_34 (gd_ac r209_37 (gd_ac r209_40 (gd_ac r209_41 (gd_ac r209_44 (gd_ac r209_47 (gd_ac r209_50 (gd_ac r209_51 (gd_ac r209_54 (gd_ac r209_57 (gd_ac r209_60 (gd_ac r209_61 (gd_ac r209_64 (gd_ac r209_65 (gd_ac r209_66 (gd_ac r209_69 (gd_ac r209_72 (gd_ac r209_75 (gd_ac r209_76 (gd_ac r209_79 (gd_ac r209_80 (gd_ac r209_83 (gd_ac r209_86 (gd_ac r209_89 (gd_ac r209_90 (gd_ac r209_93 (gd_ac r209_94 (gd_ac r209_95 (gd_ac r209_96 (gd_ac r209_97 (gd_ac r209_100 (gd_an))))))))))))))))))))))))))))))))))))))))))))))))
theorem r209_101 : Sd gd_mt M209 101 (i_isub 102) := sd_isub dX8_readStep_101 rfl
theorem r209_102 : Sd gd_mt M209 102 (i_cV 195 2 8 105) := sd_cV2 e195 cal195 q1690 q1692 (rfl : gd_cl 8 = some _) qs39 dX8_readStep_102 rfl
theorem r209_105 : Sd gd_mt M209 105 (i_msk [true, false, false, false] (i_psh (.int 0) 106)) := sd_msk _ (sd_iconst dX8_readStep_105 (by decide) rfl)
theorem r209_106 : Sd gd_mt M209 106 (i_cV 210 3 8 109) := sd_cV2 e210 cal210 q1756 q1758 (rfl : gd_cl 8 = some _) qs51 dX8_readStep_106 rfl
theorem r209_109 : Sd gd_mt M209 109 (i_msk [true, false, false, false] (i_goto 338)) := sd_msk _ (sd_goto dX8_readStep_109 (by decide))
theorem r209_112 : Sd gd_mt M209 112 (i_ild 1 113) := sd_iload_n dX8_readStep_112 rfl rfl
theorem r209_113 : Sd gd_mt M209 113 (i_psh (.ref 80) 116) := sd_ldcwS (n := 80) dX8_readStep_113 (List.mem_of_getElem? (i := 36) rfl) (by decide) rfl
theorem r209_116 : Sd gd_mt M209 116 (i_cS 191 1 119) := sd_cS2 e191 cal191 q1670 q1671 dX8_readStep_116 rfl
theorem r209_119 : Sd gd_mt M209 119 (i_msk [true, true, false, false] (i_icne 154 122)) := sd_msk _ (sd_icne dX8_readStep_119 (by decide) rfl)
theorem r209_122 : Sd gd_mt M209 122 (i_ald 0 123) := sd_aload_n dX8_readStep_122 rfl rfl
theorem r209_123 : Sd gd_mt M209 123 (i_cV 193 0 8 126) := sd_cV2 e193 cal193 q1682 q1684 (rfl : gd_cl 8 = some _) qs37 dX8_readStep_123 rfl
theorem r209_126 : Sd gd_mt M209 126 (i_msk [true, false, false, false] (i_ald 0 127)) := sd_msk _ (sd_aload_n dX8_readStep_126 rfl rfl)
theorem r209_127 : Sd gd_mt M209 127 (i_psh (.int 0) 128) := sd_iconst dX8_readStep_127 (by decide) rfl
theorem r209_128 : Sd gd_mt M209 128 (i_ald 0 129) := sd_aload_n dX8_readStep_128 rfl rfl
theorem r209_129 : Sd gd_mt M209 129 (i_getI 8 21 132) := sd_getI ck8 (by decide) rfl (.inl q1475) dX8_readStep_129 rfl
theorem r209_132 : Sd gd_mt M209 132 (i_psh (.int 1) 133) := sd_iconst dX8_readStep_132 (by decide) rfl
theorem r209_133 : Sd gd_mt M209 133 (i_isub 134) := sd_isub dX8_readStep_133 rfl
theorem r209_134 : Sd gd_mt M209 134 (i_cV 195 2 8 137) := sd_cV2 e195 cal195 q1690 q1692 (rfl : gd_cl 8 = some _) qs39 dX8_readStep_134 rfl
theorem r209_137 : Sd gd_mt M209 137 (i_msk [true, false, false, false] (i_ist 2 138)) := sd_msk _ (sd_istore_n dX8_readStep_137 rfl (by decide) rfl)
theorem r209_138 : Sd gd_mt M209 138 (i_ald 0 139) := sd_aload_n dX8_readStep_138 rfl rfl
theorem r209_139 : Sd gd_mt M209 139 (i_psh (.int 1) 140) := sd_iconst dX8_readStep_139 (by decide) rfl
theorem r209_140 : Sd gd_mt M209 140 (i_ild 2 141) := sd_iload_n dX8_readStep_140 rfl rfl
theorem r209_141 : Sd gd_mt M209 141 (i_ald 0 142) := sd_aload_n dX8_readStep_141 rfl rfl
theorem r209_142 : Sd gd_mt M209 142 (i_psh (.int 0) 143) := sd_iconst dX8_readStep_142 (by decide) rfl
theorem r209_143 : Sd gd_mt M209 143 (i_psh (.int 9) 145) := sd_bipush dX8_readStep_143 (by decide) rfl
theorem r209_145 : Sd gd_mt M209 145 (i_cV 195 2 8 148) := sd_cV2 e195 cal195 q1690 q1692 (rfl : gd_cl 8 = some _) qs39 dX8_readStep_145 rfl
theorem r209_148 : Sd gd_mt M209 148 (i_msk [true, false, false, false] (i_cV 210 3 8 151)) := sd_msk _ (sd_cV2 e210 cal210 q1756 q1758 (rfl : gd_cl 8 = some _) qs51 dX8_readStep_148 rfl)
theorem r209_151 : Sd gd_mt M209 151 (i_msk [true, false, false, false] (i_goto 338)) := sd_msk _ (sd_goto dX8_readStep_151 (by decide))
theorem r209_154 : Sd gd_mt M209 154 (i_ild 1 155) := sd_iload_n dX8_readStep_154 rfl rfl
theorem r209_155 : Sd gd_mt M209 155 (i_psh (.ref 82) 158) := sd_ldcwS (n := 82) dX8_readStep_155 (List.mem_of_getElem? (i := 37) rfl) (by decide) rfl
theorem r209_158 : Sd gd_mt M209 158 (i_cS 191 1 161) := sd_cS2 e191 cal191 q1670 q1671 dX8_readStep_158 rfl
theorem r209_161 : Sd gd_mt M209 161 (i_msk [true, true, false, false] (i_icne 184 164)) := sd_msk _ (sd_icne dX8_readStep_161 (by decide) rfl)
theorem r209_164 : Sd gd_mt M209 164 (i_ald 0 165) := sd_aload_n dX8_readStep_164 rfl rfl
theorem r209_165 : Sd gd_mt M209 165 (i_cV 193 0 8 168) := sd_cV2 e193 cal193 q1682 q1684 (rfl : gd_cl 8 = some _) qs37 dX8_readStep_165 rfl
theorem r209_168 : Sd gd_mt M209 168 (i_msk [true, false, false, false] (i_ald 0 169)) := sd_msk _ (sd_aload_n dX8_readStep_168 rfl rfl)
theorem r209_169 : Sd gd_mt M209 169 (i_psh (.int 2) 170) := sd_iconst dX8_readStep_169 (by decide) rfl
theorem r209_170 : Sd gd_mt M209 170 (i_ald 0 171) := sd_aload_n dX8_readStep_170 rfl rfl
theorem r209_171 : Sd gd_mt M209 171 (i_psh (.int 0) 172) := sd_iconst dX8_readStep_171 (by decide) rfl
theorem r209_172 : Sd gd_mt M209 172 (i_psh (.int 9) 174) := sd_bipush dX8_readStep_172 (by decide) rfl
theorem r209_174 : Sd gd_mt M209 174 (i_cV 195 2 8 177) := sd_cV2 e195 cal195 q1690 q1692 (rfl : gd_cl 8 = some _) qs39 dX8_readStep_174 rfl
theorem r209_177 : Sd gd_mt M209 177 (i_msk [true, false, false, false] (i_psh (.int 0) 178)) := sd_msk _ (sd_iconst dX8_readStep_177 (by decide) rfl)
theorem r209_178 : Sd gd_mt M209 178 (i_cV 210 3 8 181) := sd_cV2 e210 cal210 q1756 q1758 (rfl : gd_cl 8 = some _) qs51 dX8_readStep_178 rfl
theorem r209_181 : Sd gd_mt M209 181 (i_msk [true, false, false, false] (i_goto 338)) := sd_msk _ (sd_goto dX8_readStep_181 (by decide))
theorem r209_184 : Sd gd_mt M209 184 (i_ild 1 185) := sd_iload_n dX8_readStep_184 rfl rfl
theorem r209_185 : Sd gd_mt M209 185 (i_psh (.ref 84) 188) := sd_ldcwS (n := 84) dX8_readStep_185 (List.mem_of_getElem? (i := 38) rfl) (by decide) rfl
theorem r209_188 : Sd gd_mt M209 188 (i_cS 191 1 191) := sd_cS2 e191 cal191 q1670 q1671 dX8_readStep_188 rfl
theorem r209_191 : Sd gd_mt M209 191 (i_msk [true, true, false, false] (i_icne 226 194)) := sd_msk _ (sd_icne dX8_readStep_191 (by decide) rfl)
theorem r209_194 : Sd gd_mt M209 194 (i_ald 0 195) := sd_aload_n dX8_readStep_194 rfl rfl
def cl209_1 : List (Nat × gd_I) := [(101, i_isub 102), (102, i_cV 195 2 8 105), (105, i_msk [true, false, false, false] (i_psh (.int 0) 106)), (106, i_cV 210 3 8 109), (109, i_msk [true, false, false, false] (i_goto 338)), (112, i_ild 1 113), (113, i_psh (.ref 80) 116), (116, i_cS 191 1 119), (119, i_msk [true, true, false, false] (i_icne 154 122)), (122, i_ald 0 123), (123, i_cV 193 0 8 126), (126, i_msk [true, false, false, false] (i_ald 0 127)), (127, i_psh (.int 0) 128), (128, i_ald 0 129), (129, i_getI 8 21 132), (132, i_psh (.int 1) 133), (133, i_isub 134), (134, i_cV 195 2 8 137), (137, i_msk [true, false, false, false] (i_ist 2 138)), (138, i_ald 0 139), (139, i_psh (.int 1) 140), (140, i_ild 2 141), (141, i_ald 0 142), (142, i_psh (.int 0) 143), (143, i_psh (.int 9) 145), (145, i_cV 195 2 8 148), (148, i_msk [true, false, false, false] (i_cV 210 3 8 151)), (151, i_msk [true, false, false, false] (i_goto 338)), (154, i_ild 1 155), (155, i_psh (.ref 82) 158), (158, i_cS 191 1 161), (161, i_msk [true, true, false, false] (i_icne 184 164)), (164, i_ald 0 165), (165, i_cV 193 0 8 168), (168, i_msk [true, false, false, false] (i_ald 0 169)), (169, i_psh (.int 2) 170), (170, i_ald 0 171), (171, i_psh (.int 0) 172), (172, i_psh (.int 9) 174), (174, i_cV 195 2 8 177), (177, i_msk [true, false, false, false] (i_psh (.int 0) 178)), (178, i_cV 210 3 8 181), (181, i_msk [true, false, false, false] (i_goto 338)), (184, i_ild 1 185), (185, i_psh (.ref 84) 188), (188, i_cS 191 1 191), (191, i_msk [true, true, false, false] (i_icne 226 194)), (194, i_ald 0 195)]
theorem cs209_1 : ∀ q ∈ cl209_1, Sd gd_mt M209 q.1 q.2 := gd_ac r209_101 (gd_ac r209_102 (gd_ac r209_105 (gd_ac r209_106 (gd_ac r209_109 (gd_ac r209_112 (gd_ac r209_113 (gd_ac r209_116 (gd_ac r209_119 (gd_ac r209_122 (gd_ac r209_123 (gd_ac r209_126 (gd_ac r209_127 (gd_ac r209_128 (gd_ac r209_129 (gd_ac r209_132 (gd_ac r209_133 (gd_ac r209_134 (gd_ac r209_137 (gd_ac r209_138 (gd_ac r209_139 (gd_ac r209_140 (gd_ac r209_141 (gd_ac r209_142 (gd_ac r209_143 (gd_ac r209_145 (gd_ac r209_148 (gd_ac r209_151 (gd_ac r209_154 (gd_ac r209_155 (gd_ac r209_158 (gd_ac r209_161 (gd_ac r209_164 (gd_ac r209_165 (gd_ac r209_168 (gd_ac r209_169 (gd_ac r209_170 (gd_ac r209_171 (gd_ac r209_172 (gd_ac r209_174 (gd_ac r209_177 (gd_ac r209_178 (gd_ac r209_181 (gd_ac r209_184 (gd_ac r209_185 (gd_ac r209_188 (gd_ac r209_191 (gd_ac r209_194 (gd_an))))))))))))))))))))))))))))))))))))))))))))))))
theorem r209_195 : Sd gd_mt M209 195 (i_cV 193 0 8 198) := sd_cV2 e193 cal193 q1682 q1684 (rfl : gd_cl 8 = some _) qs37 dX8_readStep_195 rfl
theorem r209_198 : Sd gd_mt M209 198 (i_msk [true, false, false, false] (i_ald 0 199)) := sd_msk _ (sd_aload_n dX8_readStep_198 rfl rfl)
theorem r209_199 : Sd gd_mt M209 199 (i_psh (.int 0) 200) := sd_iconst dX8_readStep_199 (by decide) rfl
theorem r209_200 : Sd gd_mt M209 200 (i_ald 0 201) := sd_aload_n dX8_readStep_200 rfl rfl
theorem r209_201 : Sd gd_mt M209 201 (i_getI 8 20 204) := sd_getI ck8 (by decide) rfl (.inl q1474) dX8_readStep_201 rfl
theorem r209_204 : Sd gd_mt M209 204 (i_psh (.int 1) 205) := sd_iconst dX8_readStep_204 (by decide) rfl
theorem r209_205 : Sd gd_mt M209 205 (i_isub 206) := sd_isub dX8_readStep_205 rfl
theorem r209_206 : Sd gd_mt M209 206 (i_cV 195 2 8 209) := sd_cV2 e195 cal195 q1690 q1692 (rfl : gd_cl 8 = some _) qs39 dX8_readStep_206 rfl
theorem r209_209 : Sd gd_mt M209 209 (i_msk [true, false, false, false] (i_ist 2 210)) := sd_msk _ (sd_istore_n dX8_readStep_209 rfl (by decide) rfl)
theorem r209_210 : Sd gd_mt M209 210 (i_ald 0 211) := sd_aload_n dX8_readStep_210 rfl rfl
theorem r209_211 : Sd gd_mt M209 211 (i_psh (.int 3) 212) := sd_iconst dX8_readStep_211 (by decide) rfl
theorem r209_212 : Sd gd_mt M209 212 (i_ild 2 213) := sd_iload_n dX8_readStep_212 rfl rfl
theorem r209_213 : Sd gd_mt M209 213 (i_ald 0 214) := sd_aload_n dX8_readStep_213 rfl rfl
theorem r209_214 : Sd gd_mt M209 214 (i_psh (.int 1) 215) := sd_iconst dX8_readStep_214 (by decide) rfl
theorem r209_215 : Sd gd_mt M209 215 (i_psh (.int 9) 217) := sd_bipush dX8_readStep_215 (by decide) rfl
theorem r209_217 : Sd gd_mt M209 217 (i_cV 195 2 8 220) := sd_cV2 e195 cal195 q1690 q1692 (rfl : gd_cl 8 = some _) qs39 dX8_readStep_217 rfl
theorem r209_220 : Sd gd_mt M209 220 (i_msk [true, false, false, false] (i_cV 210 3 8 223)) := sd_msk _ (sd_cV2 e210 cal210 q1756 q1758 (rfl : gd_cl 8 = some _) qs51 dX8_readStep_220 rfl)
theorem r209_223 : Sd gd_mt M209 223 (i_msk [true, false, false, false] (i_goto 338)) := sd_msk _ (sd_goto dX8_readStep_223 (by decide))
theorem r209_226 : Sd gd_mt M209 226 (i_ild 1 227) := sd_iload_n dX8_readStep_226 rfl rfl
theorem r209_227 : Sd gd_mt M209 227 (i_psh (.ref 86) 230) := sd_ldcwS (n := 86) dX8_readStep_227 (List.mem_of_getElem? (i := 39) rfl) (by decide) rfl
theorem r209_230 : Sd gd_mt M209 230 (i_cS 191 1 233) := sd_cS2 e191 cal191 q1670 q1671 dX8_readStep_230 rfl
theorem r209_233 : Sd gd_mt M209 233 (i_msk [true, false, false, false] (i_icne 329 236)) := sd_msk _ (sd_icne dX8_readStep_233 (by decide) rfl)
theorem r209_236 : Sd gd_mt M209 236 (i_ald 0 237) := sd_aload_n dX8_readStep_236 rfl rfl
theorem r209_237 : Sd gd_mt M209 237 (i_psh (.int 5) 238) := sd_iconst dX8_readStep_237 (by decide) rfl
theorem r209_238 : Sd gd_mt M209 238 (i_cV 204 1 8 241) := sd_cV2 e204 cal204 q1725 q1727 (rfl : gd_cl 8 = some _) qs46 dX8_readStep_238 rfl
theorem r209_241 : Sd gd_mt M209 241 (i_msk [true, false, false, false] (i_ald 0 242)) := sd_msk _ (sd_aload_n dX8_readStep_241 rfl rfl)
theorem r209_242 : Sd gd_mt M209 242 (i_psh (.int 0) 243) := sd_iconst dX8_readStep_242 (by decide) rfl
theorem r209_243 : Sd gd_mt M209 243 (i_psh (.int 30) 245) := sd_bipush dX8_readStep_243 (by decide) rfl
theorem r209_245 : Sd gd_mt M209 245 (i_cV 195 2 8 248) := sd_cV2 e195 cal195 q1690 q1692 (rfl : gd_cl 8 = some _) qs39 dX8_readStep_245 rfl
theorem r209_248 : Sd gd_mt M209 248 (i_msk [true, false, false, false] (i_ist 2 249)) := sd_msk _ (sd_istore_n dX8_readStep_248 rfl (by decide) rfl)
theorem r209_249 : Sd gd_mt M209 249 (i_ald 0 250) := sd_aload_n dX8_readStep_249 rfl rfl
theorem r209_250 : Sd gd_mt M209 250 (i_psh (.int 91) 252) := sd_bipush dX8_readStep_250 (by decide) rfl
theorem r209_252 : Sd gd_mt M209 252 (i_cV 198 1 8 255) := sd_cV2 e198 cal198 q1701 q1703 (rfl : gd_cl 8 = some _) qs41 dX8_readStep_252 rfl
theorem r209_255 : Sd gd_mt M209 255 (i_msk [true, false, true, false] (i_ald 0 256)) := sd_msk _ (sd_aload_n dX8_readStep_255 rfl rfl)
theorem r209_256 : Sd gd_mt M209 256 (i_getI 8 32 259) := sd_getI ck8 (by decide) rfl (.inl q1486) dX8_readStep_256 rfl
theorem r209_259 : Sd gd_mt M209 259 (i_ist 3 260) := sd_istore_n dX8_readStep_259 rfl (by decide) rfl
theorem r209_260 : Sd gd_mt M209 260 (i_ald 0 261) := sd_aload_n dX8_readStep_260 rfl rfl
theorem r209_261 : Sd gd_mt M209 261 (i_psh (.int 7) 263) := sd_bipush dX8_readStep_261 (by decide) rfl
theorem r209_263 : Sd gd_mt M209 263 (i_ild 2 264) := sd_iload_n dX8_readStep_263 rfl rfl
theorem r209_264 : Sd gd_mt M209 264 (i_psh (.int 0) 265) := sd_iconst dX8_readStep_264 (by decide) rfl
theorem r209_265 : Sd gd_mt M209 265 (i_cV 210 3 8 268) := sd_cV2 e210 cal210 q1756 q1758 (rfl : gd_cl 8 = some _) qs51 dX8_readStep_265 rfl
theorem r209_268 : Sd gd_mt M209 268 (i_msk [true, false, false, true] (i_ald 0 269)) := sd_msk _ (sd_aload_n dX8_readStep_268 rfl rfl)
theorem r209_269 : Sd gd_mt M209 269 (i_cV 185 0 8 272) := sd_cV2 e185 cal185 q1647 q1649 (rfl : gd_cl 8 = some _) qs32 dX8_readStep_269 rfl
theorem r209_272 : Sd gd_mt M209 272 (i_msk [true, false, false, true] (i_ifeq 291 275)) := sd_msk _ (sd_ifeq dX8_readStep_272 (by decide) rfl)
theorem r209_275 : Sd gd_mt M209 275 (i_ald 0 276) := sd_aload_n dX8_readStep_275 rfl rfl
theorem r209_276 : Sd gd_mt M209 276 (i_cV 187 0 8 279) := sd_cV2 e187 cal187 q1655 q1657 (rfl : gd_cl 8 = some _) qs34 dX8_readStep_276 rfl
theorem r209_279 : Sd gd_mt M209 279 (i_msk [true, false, false, true] (i_psh (.int 93) 281)) := sd_msk _ (sd_bipush dX8_readStep_279 (by decide) rfl)
theorem r209_281 : Sd gd_mt M209 281 (i_iceq 291 284) := sd_iceq dX8_readStep_281 (by decide) rfl
def cl209_2 : List (Nat × gd_I) := [(195, i_cV 193 0 8 198), (198, i_msk [true, false, false, false] (i_ald 0 199)), (199, i_psh (.int 0) 200), (200, i_ald 0 201), (201, i_getI 8 20 204), (204, i_psh (.int 1) 205), (205, i_isub 206), (206, i_cV 195 2 8 209), (209, i_msk [true, false, false, false] (i_ist 2 210)), (210, i_ald 0 211), (211, i_psh (.int 3) 212), (212, i_ild 2 213), (213, i_ald 0 214), (214, i_psh (.int 1) 215), (215, i_psh (.int 9) 217), (217, i_cV 195 2 8 220), (220, i_msk [true, false, false, false] (i_cV 210 3 8 223)), (223, i_msk [true, false, false, false] (i_goto 338)), (226, i_ild 1 227), (227, i_psh (.ref 86) 230), (230, i_cS 191 1 233), (233, i_msk [true, false, false, false] (i_icne 329 236)), (236, i_ald 0 237), (237, i_psh (.int 5) 238), (238, i_cV 204 1 8 241), (241, i_msk [true, false, false, false] (i_ald 0 242)), (242, i_psh (.int 0) 243), (243, i_psh (.int 30) 245), (245, i_cV 195 2 8 248), (248, i_msk [true, false, false, false] (i_ist 2 249)), (249, i_ald 0 250), (250, i_psh (.int 91) 252), (252, i_cV 198 1 8 255), (255, i_msk [true, false, true, false] (i_ald 0 256)), (256, i_getI 8 32 259), (259, i_ist 3 260), (260, i_ald 0 261), (261, i_psh (.int 7) 263), (263, i_ild 2 264), (264, i_psh (.int 0) 265), (265, i_cV 210 3 8 268), (268, i_msk [true, false, false, true] (i_ald 0 269)), (269, i_cV 185 0 8 272), (272, i_msk [true, false, false, true] (i_ifeq 291 275)), (275, i_ald 0 276), (276, i_cV 187 0 8 279), (279, i_msk [true, false, false, true] (i_psh (.int 93) 281)), (281, i_iceq 291 284)]
theorem cs209_2 : ∀ q ∈ cl209_2, Sd gd_mt M209 q.1 q.2 := gd_ac r209_195 (gd_ac r209_198 (gd_ac r209_199 (gd_ac r209_200 (gd_ac r209_201 (gd_ac r209_204 (gd_ac r209_205 (gd_ac r209_206 (gd_ac r209_209 (gd_ac r209_210 (gd_ac r209_211 (gd_ac r209_212 (gd_ac r209_213 (gd_ac r209_214 (gd_ac r209_215 (gd_ac r209_217 (gd_ac r209_220 (gd_ac r209_223 (gd_ac r209_226 (gd_ac r209_227 (gd_ac r209_230 (gd_ac r209_233 (gd_ac r209_236 (gd_ac r209_237 (gd_ac r209_238 (gd_ac r209_241 (gd_ac r209_242 (gd_ac r209_243 (gd_ac r209_245 (gd_ac r209_248 (gd_ac r209_249 (gd_ac r209_250 (gd_ac r209_252 (gd_ac r209_255 (gd_ac r209_256 (gd_ac r209_259 (gd_ac r209_260 (gd_ac r209_261 (gd_ac r209_263 (gd_ac r209_264 (gd_ac r209_265 (gd_ac r209_268 (gd_ac r209_269 (gd_ac r209_272 (gd_ac r209_275 (gd_ac r209_276 (gd_ac r209_279 (gd_ac r209_281 (gd_an))))))))))))))))))))))))))))))))))))))))))))))))
theorem r209_284 : Sd gd_mt M209 284 (i_ald 0 285) := sd_aload_n dX8_readStep_284 rfl rfl
theorem r209_285 : Sd gd_mt M209 285 (i_cV 209 0 8 288) := sd_cV2 e209 cal209 q1752 q1754 (rfl : gd_cl 8 = some _) qs50 dX8_readStep_285 rfl
theorem r209_288 : Sd gd_mt M209 288 (i_msk [true, false, false, true] (i_goto 268)) := sd_msk _ (sd_goto dX8_readStep_288 (by decide))
theorem r209_291 : Sd gd_mt M209 291 (i_msk [true, false, false, true] (i_ald 0 292)) := sd_msk _ (sd_aload_n dX8_readStep_291 rfl rfl)
theorem r209_292 : Sd gd_mt M209 292 (i_psh (.int 93) 294) := sd_bipush dX8_readStep_292 (by decide) rfl
theorem r209_294 : Sd gd_mt M209 294 (i_cV 198 1 8 297) := sd_cV2 e198 cal198 q1701 q1703 (rfl : gd_cl 8 = some _) qs41 dX8_readStep_294 rfl
theorem r209_297 : Sd gd_mt M209 297 (i_msk [true, false, false, true] (i_ald 0 298)) := sd_msk _ (sd_aload_n dX8_readStep_297 rfl rfl)
theorem r209_298 : Sd gd_mt M209 298 (i_dup 299) := sd_dup dX8_readStep_298 rfl
theorem r209_299 : Sd gd_mt M209 299 (i_getI 8 7 302) := sd_getI ck8 (by decide) rfl (.inl q1461) dX8_readStep_299 rfl
theorem r209_302 : Sd gd_mt M209 302 (i_psh (.int 1) 303) := sd_iconst dX8_readStep_302 (by decide) rfl
theorem r209_303 : Sd gd_mt M209 303 (i_isub 304) := sd_isub dX8_readStep_303 rfl
theorem r209_304 : Sd gd_mt M209 304 (i_putI 8 7 307) := sd_putI ck8 (by decide) rfl (.inl q1461) (.inl rfl) dX8_readStep_304 rfl
theorem r209_307 : Sd gd_mt M209 307 (i_ald 0 308) := sd_aload_n dX8_readStep_307 rfl rfl
theorem r209_308 : Sd gd_mt M209 308 (i_cV 185 0 8 311) := sd_cV2 e185 cal185 q1647 q1649 (rfl : gd_cl 8 = some _) qs32 dX8_readStep_308 rfl
theorem r209_311 : Sd gd_mt M209 311 (i_msk [true, false, false, true] (i_ifeq 326 314)) := sd_msk _ (sd_ifeq dX8_readStep_311 (by decide) rfl)
theorem r209_314 : Sd gd_mt M209 314 (i_ald 0 315) := sd_aload_n dX8_readStep_314 rfl rfl
theorem r209_315 : Sd gd_mt M209 315 (i_getR 8 30 318) := sd_getR ck8 (by decide) rfl (.inl q1484) dX8_readStep_315 rfl
theorem r209_318 : Sd gd_mt M209 318 (i_ild 3 319) := sd_iload_n dX8_readStep_318 rfl rfl
theorem r209_319 : Sd gd_mt M209 319 (i_psh (.int 2) 320) := sd_iconst dX8_readStep_319 (by decide) rfl
theorem r209_320 : Sd gd_mt M209 320 (i_iadd 321) := sd_iadd dX8_readStep_320 rfl
theorem r209_321 : Sd gd_mt M209 321 (i_ald 0 322) := sd_aload_n dX8_readStep_321 rfl rfl
theorem r209_322 : Sd gd_mt M209 322 (i_getI 8 32 325) := sd_getI ck8 (by decide) rfl (.inl q1486) dX8_readStep_322 rfl
theorem r209_325 : Sd gd_mt M209 325 (i_astI 326) := sd_astI dX8_readStep_325 rfl
theorem r209_326 : Sd gd_mt M209 326 (i_msk [true, false, false, false] (i_goto 338)) := sd_msk _ (sd_goto dX8_readStep_326 (by decide))
theorem r209_329 : Sd gd_mt M209 329 (i_ald 0 330) := sd_aload_n dX8_readStep_329 rfl rfl
theorem r209_330 : Sd gd_mt M209 330 (i_psh (.int 1) 331) := sd_iconst dX8_readStep_330 (by decide) rfl
theorem r209_331 : Sd gd_mt M209 331 (i_ald 0 332) := sd_aload_n dX8_readStep_331 rfl rfl
theorem r209_332 : Sd gd_mt M209 332 (i_getI 8 4 335) := sd_getI ck8 (by decide) rfl (.inl q1458) dX8_readStep_332 rfl
theorem r209_335 : Sd gd_mt M209 335 (i_cV 192 2 8 338) := sd_cV2 e192 cal192 q1678 q1680 (rfl : gd_cl 8 = some _) qs36 dX8_readStep_335 rfl
theorem r209_338 : Sd gd_mt M209 338 (i_msk [true, false, false, false] (i_ald 0 339)) := sd_msk _ (sd_aload_n dX8_readStep_338 rfl rfl)
theorem r209_339 : Sd gd_mt M209 339 (i_psh (.int 59) 341) := sd_bipush dX8_readStep_339 (by decide) rfl
theorem r209_341 : Sd gd_mt M209 341 (i_cV 198 1 8 344) := sd_cV2 e198 cal198 q1701 q1703 (rfl : gd_cl 8 = some _) qs41 dX8_readStep_341 rfl
theorem r209_344 : Sd gd_mt M209 344 (i_msk [false, false, false, false] (i_ret)) := sd_msk _ (sd_ret rfl dX8_readStep_344)
def cl209_3 : List (Nat × gd_I) := [(284, i_ald 0 285), (285, i_cV 209 0 8 288), (288, i_msk [true, false, false, true] (i_goto 268)), (291, i_msk [true, false, false, true] (i_ald 0 292)), (292, i_psh (.int 93) 294), (294, i_cV 198 1 8 297), (297, i_msk [true, false, false, true] (i_ald 0 298)), (298, i_dup 299), (299, i_getI 8 7 302), (302, i_psh (.int 1) 303), (303, i_isub 304), (304, i_putI 8 7 307), (307, i_ald 0 308), (308, i_cV 185 0 8 311), (311, i_msk [true, false, false, true] (i_ifeq 326 314)), (314, i_ald 0 315), (315, i_getR 8 30 318), (318, i_ild 3 319), (319, i_psh (.int 2) 320), (320, i_iadd 321), (321, i_ald 0 322), (322, i_getI 8 32 325), (325, i_astI 326), (326, i_msk [true, false, false, false] (i_goto 338)), (329, i_ald 0 330), (330, i_psh (.int 1) 331), (331, i_ald 0 332), (332, i_getI 8 4 335), (335, i_cV 192 2 8 338), (338, i_msk [true, false, false, false] (i_ald 0 339)), (339, i_psh (.int 59) 341), (341, i_cV 198 1 8 344), (344, i_msk [false, false, false, false] (i_ret))]
theorem cs209_3 : ∀ q ∈ cl209_3, Sd gd_mt M209 q.1 q.2 := gd_ac r209_284 (gd_ac r209_285 (gd_ac r209_288 (gd_ac r209_291 (gd_ac r209_292 (gd_ac r209_294 (gd_ac r209_297 (gd_ac r209_298 (gd_ac r209_299 (gd_ac r209_302 (gd_ac r209_303 (gd_ac r209_304 (gd_ac r209_307 (gd_ac r209_308 (gd_ac r209_311 (gd_ac r209_314 (gd_ac r209_315 (gd_ac r209_318 (gd_ac r209_319 (gd_ac r209_320 (gd_ac r209_321 (gd_ac r209_322 (gd_ac r209_325 (gd_ac r209_326 (gd_ac r209_329 (gd_ac r209_330 (gd_ac r209_331 (gd_ac r209_332 (gd_ac r209_335 (gd_ac r209_338 (gd_ac r209_339 (gd_ac r209_341 (gd_ac r209_344 (gd_an)))))))))))))))))))))))))))))))))
def cd209 (pc : Nat) : gd_I := if pc < 101 then lkI cl209_0 pc else if pc < 195 then lkI cl209_1 pc else if pc < 284 then lkI cl209_2 pc else lkI cl209_3 pc
theorem cg209 : ∀ pc, Sd gd_mt M209 pc (cd209 pc) := by
  intro pc
  unfold cd209
  by_cases h0 : pc < 101
  · rw [if_pos h0]; exact sd_lk cs209_0 pc
  rw [if_neg h0]
  by_cases h1 : pc < 195
  · rw [if_pos h1]; exact sd_lk cs209_1 pc
  rw [if_neg h1]
  by_cases h2 : pc < 284
  · rw [if_pos h2]; exact sd_lk cs209_2 pc
  rw [if_neg h2]
  exact sd_lk cs209_3 pc
theorem r210_0 : Sd gd_mt M210 0 (i_ald 0 1) := sd_aload_n dX8_tellsStep_0 rfl rfl
theorem r210_1 : Sd gd_mt M210 1 (i_cV 185 0 8 4) := sd_cV2 e185 cal185 q1647 q1649 (rfl : gd_cl 8 = some _) qs32 dX8_tellsStep_1 rfl
theorem r210_4 : Sd gd_mt M210 4 (i_msk [true, true, true, true] (i_ifne 8 7)) := sd_msk _ (sd_ifne dX8_tellsStep_4 (by decide) rfl)
theorem r210_7 : Sd gd_mt M210 7 (i_ret) := sd_ret rfl dX8_tellsStep_7
theorem r210_8 : Sd gd_mt M210 8 (i_ald 0 9) := sd_aload_n dX8_tellsStep_8 rfl rfl
theorem r210_9 : Sd gd_mt M210 9 (i_getR 8 30 12) := sd_getR ck8 (by decide) rfl (.inl q1484) dX8_tellsStep_9 rfl
theorem r210_12 : Sd gd_mt M210 12 (i_ald 0 13) := sd_aload_n dX8_tellsStep_12 rfl rfl
theorem r210_13 : Sd gd_mt M210 13 (i_getI 8 32 16) := sd_getI ck8 (by decide) rfl (.inl q1486) dX8_tellsStep_13 rfl
theorem r210_16 : Sd gd_mt M210 16 (i_ild 1 17) := sd_iload_n dX8_tellsStep_16 rfl rfl
theorem r210_17 : Sd gd_mt M210 17 (i_astI 18) := sd_astI dX8_tellsStep_17 rfl
theorem r210_18 : Sd gd_mt M210 18 (i_ald 0 19) := sd_aload_n dX8_tellsStep_18 rfl rfl
theorem r210_19 : Sd gd_mt M210 19 (i_getR 8 30 22) := sd_getR ck8 (by decide) rfl (.inl q1484) dX8_tellsStep_19 rfl
theorem r210_22 : Sd gd_mt M210 22 (i_ald 0 23) := sd_aload_n dX8_tellsStep_22 rfl rfl
theorem r210_23 : Sd gd_mt M210 23 (i_getI 8 32 26) := sd_getI ck8 (by decide) rfl (.inl q1486) dX8_tellsStep_23 rfl
theorem r210_26 : Sd gd_mt M210 26 (i_psh (.int 1) 27) := sd_iconst dX8_tellsStep_26 (by decide) rfl
theorem r210_27 : Sd gd_mt M210 27 (i_iadd 28) := sd_iadd dX8_tellsStep_27 rfl
theorem r210_28 : Sd gd_mt M210 28 (i_ild 2 29) := sd_iload_n dX8_tellsStep_28 rfl rfl
theorem r210_29 : Sd gd_mt M210 29 (i_astI 30) := sd_astI dX8_tellsStep_29 rfl
theorem r210_30 : Sd gd_mt M210 30 (i_ald 0 31) := sd_aload_n dX8_tellsStep_30 rfl rfl
theorem r210_31 : Sd gd_mt M210 31 (i_getR 8 30 34) := sd_getR ck8 (by decide) rfl (.inl q1484) dX8_tellsStep_31 rfl
theorem r210_34 : Sd gd_mt M210 34 (i_ald 0 35) := sd_aload_n dX8_tellsStep_34 rfl rfl
theorem r210_35 : Sd gd_mt M210 35 (i_getI 8 32 38) := sd_getI ck8 (by decide) rfl (.inl q1486) dX8_tellsStep_35 rfl
theorem r210_38 : Sd gd_mt M210 38 (i_psh (.int 2) 39) := sd_iconst dX8_tellsStep_38 (by decide) rfl
theorem r210_39 : Sd gd_mt M210 39 (i_iadd 40) := sd_iadd dX8_tellsStep_39 rfl
theorem r210_40 : Sd gd_mt M210 40 (i_ild 3 41) := sd_iload_n dX8_tellsStep_40 rfl rfl
theorem r210_41 : Sd gd_mt M210 41 (i_astI 42) := sd_astI dX8_tellsStep_41 rfl
theorem r210_42 : Sd gd_mt M210 42 (i_ald 0 43) := sd_aload_n dX8_tellsStep_42 rfl rfl
theorem r210_43 : Sd gd_mt M210 43 (i_dup 44) := sd_dup dX8_tellsStep_43 rfl
theorem r210_44 : Sd gd_mt M210 44 (i_getI 8 32 47) := sd_getI ck8 (by decide) rfl (.inl q1486) dX8_tellsStep_44 rfl
theorem r210_47 : Sd gd_mt M210 47 (i_psh (.int 3) 48) := sd_iconst dX8_tellsStep_47 (by decide) rfl
theorem r210_48 : Sd gd_mt M210 48 (i_iadd 49) := sd_iadd dX8_tellsStep_48 rfl
theorem r210_49 : Sd gd_mt M210 49 (i_putI 8 32 52) := sd_putI ck8 (by decide) rfl (.inl q1486) (.inl rfl) dX8_tellsStep_49 rfl
theorem r210_52 : Sd gd_mt M210 52 (i_ret) := sd_ret rfl dX8_tellsStep_52
def cl210_0 : List (Nat × gd_I) := [(0, i_ald 0 1), (1, i_cV 185 0 8 4), (4, i_msk [true, true, true, true] (i_ifne 8 7)), (7, i_ret), (8, i_ald 0 9), (9, i_getR 8 30 12), (12, i_ald 0 13), (13, i_getI 8 32 16), (16, i_ild 1 17), (17, i_astI 18), (18, i_ald 0 19), (19, i_getR 8 30 22), (22, i_ald 0 23), (23, i_getI 8 32 26), (26, i_psh (.int 1) 27), (27, i_iadd 28), (28, i_ild 2 29), (29, i_astI 30), (30, i_ald 0 31), (31, i_getR 8 30 34), (34, i_ald 0 35), (35, i_getI 8 32 38), (38, i_psh (.int 2) 39), (39, i_iadd 40), (40, i_ild 3 41), (41, i_astI 42), (42, i_ald 0 43), (43, i_dup 44), (44, i_getI 8 32 47), (47, i_psh (.int 3) 48), (48, i_iadd 49), (49, i_putI 8 32 52), (52, i_ret)]
theorem cs210_0 : ∀ q ∈ cl210_0, Sd gd_mt M210 q.1 q.2 := gd_ac r210_0 (gd_ac r210_1 (gd_ac r210_4 (gd_ac r210_7 (gd_ac r210_8 (gd_ac r210_9 (gd_ac r210_12 (gd_ac r210_13 (gd_ac r210_16 (gd_ac r210_17 (gd_ac r210_18 (gd_ac r210_19 (gd_ac r210_22 (gd_ac r210_23 (gd_ac r210_26 (gd_ac r210_27 (gd_ac r210_28 (gd_ac r210_29 (gd_ac r210_30 (gd_ac r210_31 (gd_ac r210_34 (gd_ac r210_35 (gd_ac r210_38 (gd_ac r210_39 (gd_ac r210_40 (gd_ac r210_41 (gd_ac r210_42 (gd_ac r210_43 (gd_ac r210_44 (gd_ac r210_47 (gd_ac r210_48 (gd_ac r210_49 (gd_ac r210_52 (gd_an)))))))))))))))))))))))))))))))))
def cd210 (pc : Nat) : gd_I := lkI cl210_0 pc
theorem cg210 : ∀ pc, Sd gd_mt M210 pc (cd210 pc) := sd_lk cs210_0
theorem r211_0 : Sd gd_mt M211 0 (i_ald 0 1) := sd_aload_n dX8_take_0 rfl rfl
theorem r211_1 : Sd gd_mt M211 1 (i_ald 0 2) := sd_aload_n dX8_take_1 rfl rfl
theorem r211_2 : Sd gd_mt M211 2 (i_getR 8 38 5) := sd_getR ck8 (by decide) rfl (.inl q1492) dX8_take_2 rfl
theorem r211_5 : Sd gd_mt M211 5 (i_ald 0 6) := sd_aload_n dX8_take_5 rfl rfl
theorem r211_6 : Sd gd_mt M211 6 (i_getR 8 39 9) := sd_getR ck8 (by decide) rfl (.inl q1493) dX8_take_6 rfl
theorem r211_9 : Sd gd_mt M211 9 (i_psh (.int 50) 11) := sd_bipush dX8_take_9 (by decide) rfl
theorem r211_11 : Sd gd_mt M211 11 (i_cV 179 3 8 14) := sd_cV2 e179 cal179 q1450 q1452 (rfl : gd_cl 8 = some _) qs29 dX8_take_11 rfl
theorem r211_14 : Sd gd_mt M211 14 (i_msk [false] (i_ret)) := sd_msk _ (sd_ret rfl dX8_take_14)
def cl211_0 : List (Nat × gd_I) := [(0, i_ald 0 1), (1, i_ald 0 2), (2, i_getR 8 38 5), (5, i_ald 0 6), (6, i_getR 8 39 9), (9, i_psh (.int 50) 11), (11, i_cV 179 3 8 14), (14, i_msk [false] (i_ret))]
theorem cs211_0 : ∀ q ∈ cl211_0, Sd gd_mt M211 q.1 q.2 := gd_ac r211_0 (gd_ac r211_1 (gd_ac r211_2 (gd_ac r211_5 (gd_ac r211_6 (gd_ac r211_9 (gd_ac r211_11 (gd_ac r211_14 (gd_an))))))))
def cd211 (pc : Nat) : gd_I := lkI cl211_0 pc
theorem cg211 : ∀ pc, Sd gd_mt M211 pc (cd211 pc) := sd_lk cs211_0
theorem r212_0 : Sd gd_mt M212 0 (i_ild 1 1) := sd_iload_n dX8_goesSteps_0 rfl rfl
theorem r212_1 : Sd gd_mt M212 1 (i_ist 3 2) := sd_istore_n dX8_goesSteps_1 rfl (by decide) rfl
theorem r212_2 : Sd gd_mt M212 2 (i_msk [true, false, true, true, false, false] (i_ild 3 3)) := sd_msk _ (sd_iload_n dX8_goesSteps_2 rfl rfl)
theorem r212_3 : Sd gd_mt M212 3 (i_ild 2 4) := sd_iload_n dX8_goesSteps_3 rfl rfl
theorem r212_4 : Sd gd_mt M212 4 (i_icge 153 7) := sd_icge dX8_goesSteps_4 (by decide) rfl
theorem r212_7 : Sd gd_mt M212 7 (i_ald 0 8) := sd_aload_n dX8_goesSteps_7 rfl rfl
theorem r212_8 : Sd gd_mt M212 8 (i_getI 8 35 11) := sd_getI ck8 (by decide) rfl (.inl q1489) dX8_goesSteps_8 rfl
theorem r212_11 : Sd gd_mt M212 11 (i_psh (.int 200) 14) := sd_sipush dX8_goesSteps_11 (by decide) rfl
theorem r212_14 : Sd gd_mt M212 14 (i_icge 153 17) := sd_icge dX8_goesSteps_14 (by decide) rfl
theorem r212_17 : Sd gd_mt M212 17 (i_ald 0 18) := sd_aload_n dX8_goesSteps_17 rfl rfl
theorem r212_18 : Sd gd_mt M212 18 (i_dup 19) := sd_dup dX8_goesSteps_18 rfl
theorem r212_19 : Sd gd_mt M212 19 (i_getI 8 35 22) := sd_getI ck8 (by decide) rfl (.inl q1489) dX8_goesSteps_19 rfl
theorem r212_22 : Sd gd_mt M212 22 (i_psh (.int 1) 23) := sd_iconst dX8_goesSteps_22 (by decide) rfl
theorem r212_23 : Sd gd_mt M212 23 (i_iadd 24) := sd_iadd dX8_goesSteps_23 rfl
theorem r212_24 : Sd gd_mt M212 24 (i_putI 8 35 27) := sd_putI ck8 (by decide) rfl (.inl q1489) (.inl rfl) dX8_goesSteps_24 rfl
theorem r212_27 : Sd gd_mt M212 27 (i_ald 0 28) := sd_aload_n dX8_goesSteps_27 rfl rfl
theorem r212_28 : Sd gd_mt M212 28 (i_getR 8 31 31) := sd_getR ck8 (by decide) rfl (.inl q1485) dX8_goesSteps_28 rfl
theorem r212_31 : Sd gd_mt M212 31 (i_ild 3 32) := sd_iload_n dX8_goesSteps_31 rfl rfl
theorem r212_32 : Sd gd_mt M212 32 (i_aldI 31 33) := sd_iald dX8_goesSteps_32 rfl
theorem r212_33 : Sd gd_mt M212 33 (i_psh (.int 7) 35) := sd_bipush dX8_goesSteps_33 (by decide) rfl
theorem r212_35 : Sd gd_mt M212 35 (i_icne 95 38) := sd_icne dX8_goesSteps_35 (by decide) rfl
theorem r212_38 : Sd gd_mt M212 38 (i_ald 0 39) := sd_aload_n dX8_goesSteps_38 rfl rfl
theorem r212_39 : Sd gd_mt M212 39 (i_getR 8 31 42) := sd_getR ck8 (by decide) rfl (.inl q1485) dX8_goesSteps_39 rfl
theorem r212_42 : Sd gd_mt M212 42 (i_ild 3 43) := sd_iload_n dX8_goesSteps_42 rfl rfl
theorem r212_43 : Sd gd_mt M212 43 (i_psh (.int 2) 44) := sd_iconst dX8_goesSteps_43 (by decide) rfl
theorem r212_44 : Sd gd_mt M212 44 (i_iadd 45) := sd_iadd dX8_goesSteps_44 rfl
theorem r212_45 : Sd gd_mt M212 45 (i_aldI 31 46) := sd_iald dX8_goesSteps_45 rfl
theorem r212_46 : Sd gd_mt M212 46 (i_ist 4 48) := sd_istore dX8_goesSteps_46 (by decide) rfl
theorem r212_48 : Sd gd_mt M212 48 (i_psh (.int 0) 49) := sd_iconst dX8_goesSteps_48 (by decide) rfl
theorem r212_49 : Sd gd_mt M212 49 (i_ist 5 51) := sd_istore dX8_goesSteps_49 (by decide) rfl
theorem r212_51 : Sd gd_mt M212 51 (i_msk [true, false, true, true, true, true] (i_ild 5 53)) := sd_msk _ (sd_iload dX8_goesSteps_51 rfl)
theorem r212_53 : Sd gd_mt M212 53 (i_ald 0 54) := sd_aload_n dX8_goesSteps_53 rfl rfl
theorem r212_54 : Sd gd_mt M212 54 (i_getR 8 31 57) := sd_getR ck8 (by decide) rfl (.inl q1485) dX8_goesSteps_54 rfl
theorem r212_57 : Sd gd_mt M212 57 (i_ild 3 58) := sd_iload_n dX8_goesSteps_57 rfl rfl
theorem r212_58 : Sd gd_mt M212 58 (i_psh (.int 1) 59) := sd_iconst dX8_goesSteps_58 (by decide) rfl
theorem r212_59 : Sd gd_mt M212 59 (i_iadd 60) := sd_iadd dX8_goesSteps_59 rfl
theorem r212_60 : Sd gd_mt M212 60 (i_aldI 31 61) := sd_iald dX8_goesSteps_60 rfl
theorem r212_61 : Sd gd_mt M212 61 (i_icge 89 64) := sd_icge dX8_goesSteps_61 (by decide) rfl
theorem r212_64 : Sd gd_mt M212 64 (i_ald 0 65) := sd_aload_n dX8_goesSteps_64 rfl rfl
theorem r212_65 : Sd gd_mt M212 65 (i_getI 8 35 68) := sd_getI ck8 (by decide) rfl (.inl q1489) dX8_goesSteps_65 rfl
theorem r212_68 : Sd gd_mt M212 68 (i_psh (.int 200) 71) := sd_sipush dX8_goesSteps_68 (by decide) rfl
theorem r212_71 : Sd gd_mt M212 71 (i_icge 89 74) := sd_icge dX8_goesSteps_71 (by decide) rfl
theorem r212_74 : Sd gd_mt M212 74 (i_ald 0 75) := sd_aload_n dX8_goesSteps_74 rfl rfl
theorem r212_75 : Sd gd_mt M212 75 (i_ild 3 76) := sd_iload_n dX8_goesSteps_75 rfl rfl
theorem r212_76 : Sd gd_mt M212 76 (i_psh (.int 3) 77) := sd_iconst dX8_goesSteps_76 (by decide) rfl
theorem r212_77 : Sd gd_mt M212 77 (i_iadd 78) := sd_iadd dX8_goesSteps_77 rfl
theorem r212_78 : Sd gd_mt M212 78 (i_ild 4 80) := sd_iload dX8_goesSteps_78 rfl
theorem r212_80 : Sd gd_mt M212 80 (i_cV 212 2 8 83) := sd_cV2 e212 cal212 q1771 q1773 (rfl : gd_cl 8 = some _) qs53 dX8_goesSteps_80 rfl
def cl212_0 : List (Nat × gd_I) := [(0, i_ild 1 1), (1, i_ist 3 2), (2, i_msk [true, false, true, true, false, false] (i_ild 3 3)), (3, i_ild 2 4), (4, i_icge 153 7), (7, i_ald 0 8), (8, i_getI 8 35 11), (11, i_psh (.int 200) 14), (14, i_icge 153 17), (17, i_ald 0 18), (18, i_dup 19), (19, i_getI 8 35 22), (22, i_psh (.int 1) 23), (23, i_iadd 24), (24, i_putI 8 35 27), (27, i_ald 0 28), (28, i_getR 8 31 31), (31, i_ild 3 32), (32, i_aldI 31 33), (33, i_psh (.int 7) 35), (35, i_icne 95 38), (38, i_ald 0 39), (39, i_getR 8 31 42), (42, i_ild 3 43), (43, i_psh (.int 2) 44), (44, i_iadd 45), (45, i_aldI 31 46), (46, i_ist 4 48), (48, i_psh (.int 0) 49), (49, i_ist 5 51), (51, i_msk [true, false, true, true, true, true] (i_ild 5 53)), (53, i_ald 0 54), (54, i_getR 8 31 57), (57, i_ild 3 58), (58, i_psh (.int 1) 59), (59, i_iadd 60), (60, i_aldI 31 61), (61, i_icge 89 64), (64, i_ald 0 65), (65, i_getI 8 35 68), (68, i_psh (.int 200) 71), (71, i_icge 89 74), (74, i_ald 0 75), (75, i_ild 3 76), (76, i_psh (.int 3) 77), (77, i_iadd 78), (78, i_ild 4 80), (80, i_cV 212 2 8 83)]
theorem cs212_0 : ∀ q ∈ cl212_0, Sd gd_mt M212 q.1 q.2 := gd_ac r212_0 (gd_ac r212_1 (gd_ac r212_2 (gd_ac r212_3 (gd_ac r212_4 (gd_ac r212_7 (gd_ac r212_8 (gd_ac r212_11 (gd_ac r212_14 (gd_ac r212_17 (gd_ac r212_18 (gd_ac r212_19 (gd_ac r212_22 (gd_ac r212_23 (gd_ac r212_24 (gd_ac r212_27 (gd_ac r212_28 (gd_ac r212_31 (gd_ac r212_32 (gd_ac r212_33 (gd_ac r212_35 (gd_ac r212_38 (gd_ac r212_39 (gd_ac r212_42 (gd_ac r212_43 (gd_ac r212_44 (gd_ac r212_45 (gd_ac r212_46 (gd_ac r212_48 (gd_ac r212_49 (gd_ac r212_51 (gd_ac r212_53 (gd_ac r212_54 (gd_ac r212_57 (gd_ac r212_58 (gd_ac r212_59 (gd_ac r212_60 (gd_ac r212_61 (gd_ac r212_64 (gd_ac r212_65 (gd_ac r212_68 (gd_ac r212_71 (gd_ac r212_74 (gd_ac r212_75 (gd_ac r212_76 (gd_ac r212_77 (gd_ac r212_78 (gd_ac r212_80 (gd_an))))))))))))))))))))))))))))))))))))))))))))))))
theorem r212_83 : Sd gd_mt M212 83 (i_msk [true, false, true, true, true, true] (i_inc 5 1 86)) := sd_msk _ (sd_iinc dX8_goesSteps_83 (by decide) (by decide) rfl)
theorem r212_86 : Sd gd_mt M212 86 (i_goto 51) := sd_goto dX8_goesSteps_86 (by decide)
theorem r212_89 : Sd gd_mt M212 89 (i_msk [true, false, true, false, true, false] (i_ild 4 91)) := sd_msk _ (sd_iload dX8_goesSteps_89 rfl)
theorem r212_91 : Sd gd_mt M212 91 (i_ist 3 92) := sd_istore_n dX8_goesSteps_91 rfl (by decide) rfl
theorem r212_92 : Sd gd_mt M212 92 (i_goto 2) := sd_goto dX8_goesSteps_92 (by decide)
theorem r212_95 : Sd gd_mt M212 95 (i_ald 0 96) := sd_aload_n dX8_goesSteps_95 rfl rfl
theorem r212_96 : Sd gd_mt M212 96 (i_ald 0 97) := sd_aload_n dX8_goesSteps_96 rfl rfl
theorem r212_97 : Sd gd_mt M212 97 (i_getR 8 31 100) := sd_getR ck8 (by decide) rfl (.inl q1485) dX8_goesSteps_97 rfl
theorem r212_100 : Sd gd_mt M212 100 (i_ild 3 101) := sd_iload_n dX8_goesSteps_100 rfl rfl
theorem r212_101 : Sd gd_mt M212 101 (i_aldI 31 102) := sd_iald dX8_goesSteps_101 rfl
theorem r212_102 : Sd gd_mt M212 102 (i_ald 0 103) := sd_aload_n dX8_goesSteps_102 rfl rfl
theorem r212_103 : Sd gd_mt M212 103 (i_getR 8 31 106) := sd_getR ck8 (by decide) rfl (.inl q1485) dX8_goesSteps_103 rfl
theorem r212_106 : Sd gd_mt M212 106 (i_ild 3 107) := sd_iload_n dX8_goesSteps_106 rfl rfl
theorem r212_107 : Sd gd_mt M212 107 (i_psh (.int 1) 108) := sd_iconst dX8_goesSteps_107 (by decide) rfl
theorem r212_108 : Sd gd_mt M212 108 (i_iadd 109) := sd_iadd dX8_goesSteps_108 rfl
theorem r212_109 : Sd gd_mt M212 109 (i_aldI 31 110) := sd_iald dX8_goesSteps_109 rfl
theorem r212_110 : Sd gd_mt M212 110 (i_ald 0 111) := sd_aload_n dX8_goesSteps_110 rfl rfl
theorem r212_111 : Sd gd_mt M212 111 (i_getR 8 31 114) := sd_getR ck8 (by decide) rfl (.inl q1485) dX8_goesSteps_111 rfl
theorem r212_114 : Sd gd_mt M212 114 (i_ild 3 115) := sd_iload_n dX8_goesSteps_114 rfl rfl
theorem r212_115 : Sd gd_mt M212 115 (i_psh (.int 2) 116) := sd_iconst dX8_goesSteps_115 (by decide) rfl
theorem r212_116 : Sd gd_mt M212 116 (i_iadd 117) := sd_iadd dX8_goesSteps_116 rfl
theorem r212_117 : Sd gd_mt M212 117 (i_aldI 31 118) := sd_iald dX8_goesSteps_117 rfl
theorem r212_118 : Sd gd_mt M212 118 (i_cV 213 3 8 121) := sd_cV2 e213 cal213 q1775 q1777 (rfl : gd_cl 8 = some _) qs54 dX8_goesSteps_118 rfl
theorem r212_121 : Sd gd_mt M212 121 (i_msk [true, false, true, true, false, false] (i_ifeq 137 124)) := sd_msk _ (sd_ifeq dX8_goesSteps_121 (by decide) rfl)
theorem r212_124 : Sd gd_mt M212 124 (i_ald 0 125) := sd_aload_n dX8_goesSteps_124 rfl rfl
theorem r212_125 : Sd gd_mt M212 125 (i_dup 126) := sd_dup dX8_goesSteps_125 rfl
theorem r212_126 : Sd gd_mt M212 126 (i_getI 8 36 129) := sd_getI ck8 (by decide) rfl (.inl q1490) dX8_goesSteps_126 rfl
theorem r212_129 : Sd gd_mt M212 129 (i_psh (.int 1) 130) := sd_iconst dX8_goesSteps_129 (by decide) rfl
theorem r212_130 : Sd gd_mt M212 130 (i_iadd 131) := sd_iadd dX8_goesSteps_130 rfl
theorem r212_131 : Sd gd_mt M212 131 (i_putI 8 36 134) := sd_putI ck8 (by decide) rfl (.inl q1490) (.inl rfl) dX8_goesSteps_131 rfl
theorem r212_134 : Sd gd_mt M212 134 (i_goto 147) := sd_goto dX8_goesSteps_134 (by decide)
theorem r212_137 : Sd gd_mt M212 137 (i_ald 0 138) := sd_aload_n dX8_goesSteps_137 rfl rfl
theorem r212_138 : Sd gd_mt M212 138 (i_dup 139) := sd_dup dX8_goesSteps_138 rfl
theorem r212_139 : Sd gd_mt M212 139 (i_getI 8 37 142) := sd_getI ck8 (by decide) rfl (.inl q1491) dX8_goesSteps_139 rfl
theorem r212_142 : Sd gd_mt M212 142 (i_psh (.int 1) 143) := sd_iconst dX8_goesSteps_142 (by decide) rfl
theorem r212_143 : Sd gd_mt M212 143 (i_iadd 144) := sd_iadd dX8_goesSteps_143 rfl
theorem r212_144 : Sd gd_mt M212 144 (i_putI 8 37 147) := sd_putI ck8 (by decide) rfl (.inl q1491) (.inl rfl) dX8_goesSteps_144 rfl
theorem r212_147 : Sd gd_mt M212 147 (i_msk [true, false, true, true, false, false] (i_inc 3 3 150)) := sd_msk _ (sd_iinc dX8_goesSteps_147 (by decide) (by decide) rfl)
theorem r212_150 : Sd gd_mt M212 150 (i_goto 2) := sd_goto dX8_goesSteps_150 (by decide)
theorem r212_153 : Sd gd_mt M212 153 (i_msk [false, false, false, false, false, false] (i_ret)) := sd_msk _ (sd_ret rfl dX8_goesSteps_153)
def cl212_1 : List (Nat × gd_I) := [(83, i_msk [true, false, true, true, true, true] (i_inc 5 1 86)), (86, i_goto 51), (89, i_msk [true, false, true, false, true, false] (i_ild 4 91)), (91, i_ist 3 92), (92, i_goto 2), (95, i_ald 0 96), (96, i_ald 0 97), (97, i_getR 8 31 100), (100, i_ild 3 101), (101, i_aldI 31 102), (102, i_ald 0 103), (103, i_getR 8 31 106), (106, i_ild 3 107), (107, i_psh (.int 1) 108), (108, i_iadd 109), (109, i_aldI 31 110), (110, i_ald 0 111), (111, i_getR 8 31 114), (114, i_ild 3 115), (115, i_psh (.int 2) 116), (116, i_iadd 117), (117, i_aldI 31 118), (118, i_cV 213 3 8 121), (121, i_msk [true, false, true, true, false, false] (i_ifeq 137 124)), (124, i_ald 0 125), (125, i_dup 126), (126, i_getI 8 36 129), (129, i_psh (.int 1) 130), (130, i_iadd 131), (131, i_putI 8 36 134), (134, i_goto 147), (137, i_ald 0 138), (138, i_dup 139), (139, i_getI 8 37 142), (142, i_psh (.int 1) 143), (143, i_iadd 144), (144, i_putI 8 37 147), (147, i_msk [true, false, true, true, false, false] (i_inc 3 3 150)), (150, i_goto 2), (153, i_msk [false, false, false, false, false, false] (i_ret))]
theorem cs212_1 : ∀ q ∈ cl212_1, Sd gd_mt M212 q.1 q.2 := gd_ac r212_83 (gd_ac r212_86 (gd_ac r212_89 (gd_ac r212_91 (gd_ac r212_92 (gd_ac r212_95 (gd_ac r212_96 (gd_ac r212_97 (gd_ac r212_100 (gd_ac r212_101 (gd_ac r212_102 (gd_ac r212_103 (gd_ac r212_106 (gd_ac r212_107 (gd_ac r212_108 (gd_ac r212_109 (gd_ac r212_110 (gd_ac r212_111 (gd_ac r212_114 (gd_ac r212_115 (gd_ac r212_116 (gd_ac r212_117 (gd_ac r212_118 (gd_ac r212_121 (gd_ac r212_124 (gd_ac r212_125 (gd_ac r212_126 (gd_ac r212_129 (gd_ac r212_130 (gd_ac r212_131 (gd_ac r212_134 (gd_ac r212_137 (gd_ac r212_138 (gd_ac r212_139 (gd_ac r212_142 (gd_ac r212_143 (gd_ac r212_144 (gd_ac r212_147 (gd_ac r212_150 (gd_ac r212_153 (gd_an))))))))))))))))))))))))))))))))))))))))
def cd212 (pc : Nat) : gd_I := if pc < 83 then lkI cl212_0 pc else lkI cl212_1 pc
theorem cg212 : ∀ pc, Sd gd_mt M212 pc (cd212 pc) := by
  intro pc
  unfold cd212
  by_cases h0 : pc < 83
  · rw [if_pos h0]; exact sd_lk cs212_0 pc
  rw [if_neg h0]
  exact sd_lk cs212_1 pc
theorem r213_0 : Sd gd_mt M213 0 (i_ild 1 1) := sd_iload_n dX8_isDone_0 rfl rfl
theorem r213_1 : Sd gd_mt M213 1 (i_ifne 10 4) := sd_ifne dX8_isDone_1 (by decide) rfl
theorem r213_4 : Sd gd_mt M213 4 (i_ald 0 5) := sd_aload_n dX8_isDone_4 rfl rfl
theorem r213_5 : Sd gd_mt M213 5 (i_ild 2 6) := sd_iload_n dX8_isDone_5 rfl rfl
theorem r213_6 : Sd gd_mt M213 6 (i_cV 214 1 8 9) := sd_cV2 e214 cal214 q1779 q1781 (rfl : gd_cl 8 = some _) qs55 dX8_isDone_6 rfl
theorem r213_9 : Sd gd_mt M213 9 (i_msk [false, false, false, false] (i_zret)) := sd_msk _ (sd_zret rfl dX8_isDone_9)
theorem r213_10 : Sd gd_mt M213 10 (i_ild 1 11) := sd_iload_n dX8_isDone_10 rfl rfl
theorem r213_11 : Sd gd_mt M213 11 (i_psh (.int 1) 12) := sd_iconst dX8_isDone_11 (by decide) rfl
theorem r213_12 : Sd gd_mt M213 12 (i_icne 25 15) := sd_icne dX8_isDone_12 (by decide) rfl
theorem r213_15 : Sd gd_mt M213 15 (i_ald 0 16) := sd_aload_n dX8_isDone_15 rfl rfl
theorem r213_16 : Sd gd_mt M213 16 (i_psh (.int 7) 18) := sd_bipush dX8_isDone_16 (by decide) rfl
theorem r213_18 : Sd gd_mt M213 18 (i_ild 2 19) := sd_iload_n dX8_isDone_18 rfl rfl
theorem r213_19 : Sd gd_mt M213 19 (i_iadd 20) := sd_iadd dX8_isDone_19 rfl
theorem r213_20 : Sd gd_mt M213 20 (i_ild 3 21) := sd_iload_n dX8_isDone_20 rfl rfl
theorem r213_21 : Sd gd_mt M213 21 (i_cV 217 2 8 24) := sd_cV2 e217 cal217 q1791 q1793 (rfl : gd_cl 8 = some _) qs58 dX8_isDone_21 rfl
theorem r213_24 : Sd gd_mt M213 24 (i_msk [false, false, false, false] (i_zret)) := sd_msk _ (sd_zret rfl dX8_isDone_24)
theorem r213_25 : Sd gd_mt M213 25 (i_ild 1 26) := sd_iload_n dX8_isDone_25 rfl rfl
theorem r213_26 : Sd gd_mt M213 26 (i_psh (.int 2) 27) := sd_iconst dX8_isDone_26 (by decide) rfl
theorem r213_27 : Sd gd_mt M213 27 (i_icne 38 30) := sd_icne dX8_isDone_27 (by decide) rfl
theorem r213_30 : Sd gd_mt M213 30 (i_ald 0 31) := sd_aload_n dX8_isDone_30 rfl rfl
theorem r213_31 : Sd gd_mt M213 31 (i_psh (.int 48) 33) := sd_bipush dX8_isDone_31 (by decide) rfl
theorem r213_33 : Sd gd_mt M213 33 (i_ild 2 34) := sd_iload_n dX8_isDone_33 rfl rfl
theorem r213_34 : Sd gd_mt M213 34 (i_cV 217 2 8 37) := sd_cV2 e217 cal217 q1791 q1793 (rfl : gd_cl 8 = some _) qs58 dX8_isDone_34 rfl
theorem r213_37 : Sd gd_mt M213 37 (i_msk [false, false, false, false] (i_zret)) := sd_msk _ (sd_zret rfl dX8_isDone_37)
theorem r213_38 : Sd gd_mt M213 38 (i_ild 1 39) := sd_iload_n dX8_isDone_38 rfl rfl
theorem r213_39 : Sd gd_mt M213 39 (i_psh (.int 3) 40) := sd_iconst dX8_isDone_39 (by decide) rfl
theorem r213_40 : Sd gd_mt M213 40 (i_icne 50 43) := sd_icne dX8_isDone_40 (by decide) rfl
theorem r213_43 : Sd gd_mt M213 43 (i_ald 0 44) := sd_aload_n dX8_isDone_43 rfl rfl
theorem r213_44 : Sd gd_mt M213 44 (i_ild 2 45) := sd_iload_n dX8_isDone_44 rfl rfl
theorem r213_45 : Sd gd_mt M213 45 (i_ild 3 46) := sd_iload_n dX8_isDone_45 rfl rfl
theorem r213_46 : Sd gd_mt M213 46 (i_cV 218 2 8 49) := sd_cV2 e218 cal218 q1795 q1797 (rfl : gd_cl 8 = some _) qs59 dX8_isDone_46 rfl
theorem r213_49 : Sd gd_mt M213 49 (i_msk [false, false, false, false] (i_zret)) := sd_msk _ (sd_zret rfl dX8_isDone_49)
theorem r213_50 : Sd gd_mt M213 50 (i_ild 1 51) := sd_iload_n dX8_isDone_50 rfl rfl
theorem r213_51 : Sd gd_mt M213 51 (i_psh (.int 4) 52) := sd_iconst dX8_isDone_51 (by decide) rfl
theorem r213_52 : Sd gd_mt M213 52 (i_iceq 60 55) := sd_iceq dX8_isDone_52 (by decide) rfl
theorem r213_55 : Sd gd_mt M213 55 (i_ild 1 56) := sd_iload_n dX8_isDone_55 rfl rfl
theorem r213_56 : Sd gd_mt M213 56 (i_psh (.int 5) 57) := sd_iconst dX8_isDone_56 (by decide) rfl
theorem r213_57 : Sd gd_mt M213 57 (i_icne 79 60) := sd_icne dX8_isDone_57 (by decide) rfl
theorem r213_60 : Sd gd_mt M213 60 (i_msk [true, true, true, false] (i_ald 0 61)) := sd_msk _ (sd_aload_n dX8_isDone_60 rfl rfl)
theorem r213_61 : Sd gd_mt M213 61 (i_psh (.int 35) 63) := sd_bipush dX8_isDone_61 (by decide) rfl
theorem r213_63 : Sd gd_mt M213 63 (i_ild 2 64) := sd_iload_n dX8_isDone_63 rfl rfl
theorem r213_64 : Sd gd_mt M213 64 (i_iadd 65) := sd_iadd dX8_isDone_64 rfl
theorem r213_65 : Sd gd_mt M213 65 (i_ild 1 66) := sd_iload_n dX8_isDone_65 rfl rfl
theorem r213_66 : Sd gd_mt M213 66 (i_psh (.int 5) 67) := sd_iconst dX8_isDone_66 (by decide) rfl
theorem r213_67 : Sd gd_mt M213 67 (i_icne 74 70) := sd_icne dX8_isDone_67 (by decide) rfl
theorem r213_70 : Sd gd_mt M213 70 (i_psh (.int 1) 71) := sd_iconst dX8_isDone_70 (by decide) rfl
theorem r213_71 : Sd gd_mt M213 71 (i_goto 75) := sd_goto dX8_isDone_71 (by decide)
theorem r213_74 : Sd gd_mt M213 74 (i_psh (.int 0) 75) := sd_iconst dX8_isDone_74 (by decide) rfl
def cl213_0 : List (Nat × gd_I) := [(0, i_ild 1 1), (1, i_ifne 10 4), (4, i_ald 0 5), (5, i_ild 2 6), (6, i_cV 214 1 8 9), (9, i_msk [false, false, false, false] (i_zret)), (10, i_ild 1 11), (11, i_psh (.int 1) 12), (12, i_icne 25 15), (15, i_ald 0 16), (16, i_psh (.int 7) 18), (18, i_ild 2 19), (19, i_iadd 20), (20, i_ild 3 21), (21, i_cV 217 2 8 24), (24, i_msk [false, false, false, false] (i_zret)), (25, i_ild 1 26), (26, i_psh (.int 2) 27), (27, i_icne 38 30), (30, i_ald 0 31), (31, i_psh (.int 48) 33), (33, i_ild 2 34), (34, i_cV 217 2 8 37), (37, i_msk [false, false, false, false] (i_zret)), (38, i_ild 1 39), (39, i_psh (.int 3) 40), (40, i_icne 50 43), (43, i_ald 0 44), (44, i_ild 2 45), (45, i_ild 3 46), (46, i_cV 218 2 8 49), (49, i_msk [false, false, false, false] (i_zret)), (50, i_ild 1 51), (51, i_psh (.int 4) 52), (52, i_iceq 60 55), (55, i_ild 1 56), (56, i_psh (.int 5) 57), (57, i_icne 79 60), (60, i_msk [true, true, true, false] (i_ald 0 61)), (61, i_psh (.int 35) 63), (63, i_ild 2 64), (64, i_iadd 65), (65, i_ild 1 66), (66, i_psh (.int 5) 67), (67, i_icne 74 70), (70, i_psh (.int 1) 71), (71, i_goto 75), (74, i_psh (.int 0) 75)]
theorem cs213_0 : ∀ q ∈ cl213_0, Sd gd_mt M213 q.1 q.2 := gd_ac r213_0 (gd_ac r213_1 (gd_ac r213_4 (gd_ac r213_5 (gd_ac r213_6 (gd_ac r213_9 (gd_ac r213_10 (gd_ac r213_11 (gd_ac r213_12 (gd_ac r213_15 (gd_ac r213_16 (gd_ac r213_18 (gd_ac r213_19 (gd_ac r213_20 (gd_ac r213_21 (gd_ac r213_24 (gd_ac r213_25 (gd_ac r213_26 (gd_ac r213_27 (gd_ac r213_30 (gd_ac r213_31 (gd_ac r213_33 (gd_ac r213_34 (gd_ac r213_37 (gd_ac r213_38 (gd_ac r213_39 (gd_ac r213_40 (gd_ac r213_43 (gd_ac r213_44 (gd_ac r213_45 (gd_ac r213_46 (gd_ac r213_49 (gd_ac r213_50 (gd_ac r213_51 (gd_ac r213_52 (gd_ac r213_55 (gd_ac r213_56 (gd_ac r213_57 (gd_ac r213_60 (gd_ac r213_61 (gd_ac r213_63 (gd_ac r213_64 (gd_ac r213_65 (gd_ac r213_66 (gd_ac r213_67 (gd_ac r213_70 (gd_ac r213_71 (gd_ac r213_74 (gd_an))))))))))))))))))))))))))))))))))))))))))))))))
theorem r213_75 : Sd gd_mt M213 75 (i_msk [false, false, false, false] (i_cV 217 2 8 78)) := sd_msk _ (sd_cV2 e217 cal217 q1791 q1793 (rfl : gd_cl 8 = some _) qs58 dX8_isDone_75 rfl)
theorem r213_78 : Sd gd_mt M213 78 (i_msk [false, false, false, false] (i_zret)) := sd_msk _ (sd_zret rfl dX8_isDone_78)
theorem r213_79 : Sd gd_mt M213 79 (i_ald 0 80) := sd_aload_n dX8_isDone_79 rfl rfl
theorem r213_80 : Sd gd_mt M213 80 (i_getR 8 39 83) := sd_getR ck8 (by decide) rfl (.inl q1493) dX8_isDone_80 rfl
theorem r213_83 : Sd gd_mt M213 83 (i_psh (.int 49) 85) := sd_bipush dX8_isDone_83 (by decide) rfl
theorem r213_85 : Sd gd_mt M213 85 (i_aldI 31 86) := sd_iald dX8_isDone_85 rfl
theorem r213_86 : Sd gd_mt M213 86 (i_psh (.int 400) 89) := sd_sipush dX8_isDone_86 (by decide) rfl
theorem r213_89 : Sd gd_mt M213 89 (i_icne 94 92) := sd_icne dX8_isDone_89 (by decide) rfl
theorem r213_92 : Sd gd_mt M213 92 (i_psh (.int 0) 93) := sd_iconst dX8_isDone_92 (by decide) rfl
theorem r213_93 : Sd gd_mt M213 93 (i_zret) := sd_zret rfl dX8_isDone_93
theorem r213_94 : Sd gd_mt M213 94 (i_ald 0 95) := sd_aload_n dX8_isDone_94 rfl rfl
theorem r213_95 : Sd gd_mt M213 95 (i_cV 219 0 8 98) := sd_cV2 e219 cal219 q1799 q1801 (rfl : gd_cl 8 = some _) qs60 dX8_isDone_95 rfl
theorem r213_98 : Sd gd_mt M213 98 (i_msk [false, false, false, false] (i_psh (.int 1) 99)) := sd_msk _ (sd_iconst dX8_isDone_98 (by decide) rfl)
theorem r213_99 : Sd gd_mt M213 99 (i_zret) := sd_zret rfl dX8_isDone_99
def cl213_1 : List (Nat × gd_I) := [(75, i_msk [false, false, false, false] (i_cV 217 2 8 78)), (78, i_msk [false, false, false, false] (i_zret)), (79, i_ald 0 80), (80, i_getR 8 39 83), (83, i_psh (.int 49) 85), (85, i_aldI 31 86), (86, i_psh (.int 400) 89), (89, i_icne 94 92), (92, i_psh (.int 0) 93), (93, i_zret), (94, i_ald 0 95), (95, i_cV 219 0 8 98), (98, i_msk [false, false, false, false] (i_psh (.int 1) 99)), (99, i_zret)]
theorem cs213_1 : ∀ q ∈ cl213_1, Sd gd_mt M213 q.1 q.2 := gd_ac r213_75 (gd_ac r213_78 (gd_ac r213_79 (gd_ac r213_80 (gd_ac r213_83 (gd_ac r213_85 (gd_ac r213_86 (gd_ac r213_89 (gd_ac r213_92 (gd_ac r213_93 (gd_ac r213_94 (gd_ac r213_95 (gd_ac r213_98 (gd_ac r213_99 (gd_an))))))))))))))
def cd213 (pc : Nat) : gd_I := if pc < 75 then lkI cl213_0 pc else lkI cl213_1 pc
theorem cg213 : ∀ pc, Sd gd_mt M213 pc (cd213 pc) := by
  intro pc
  unfold cd213
  by_cases h0 : pc < 75
  · rw [if_pos h0]; exact sd_lk cs213_0 pc
  rw [if_neg h0]
  exact sd_lk cs213_1 pc
theorem r214_0 : Sd gd_mt M214 0 (i_ald 0 1) := sd_aload_n dX8_cuts_0 rfl rfl
theorem r214_1 : Sd gd_mt M214 1 (i_getR 8 39 4) := sd_getR ck8 (by decide) rfl (.inl q1493) dX8_cuts_1 rfl
theorem r214_4 : Sd gd_mt M214 4 (i_psh (.int 35) 6) := sd_bipush dX8_cuts_4 (by decide) rfl
theorem r214_6 : Sd gd_mt M214 6 (i_ild 1 7) := sd_iload_n dX8_cuts_6 rfl rfl
theorem r214_7 : Sd gd_mt M214 7 (i_iadd 8) := sd_iadd dX8_cuts_7 rfl
theorem r214_8 : Sd gd_mt M214 8 (i_aldI 31 9) := sd_iald dX8_cuts_8 rfl
theorem r214_9 : Sd gd_mt M214 9 (i_psh (.int 1) 10) := sd_iconst dX8_cuts_9 (by decide) rfl
theorem r214_10 : Sd gd_mt M214 10 (i_icne 28 13) := sd_icne dX8_cuts_10 (by decide) rfl
theorem r214_13 : Sd gd_mt M214 13 (i_ald 0 14) := sd_aload_n dX8_cuts_13 rfl rfl
theorem r214_14 : Sd gd_mt M214 14 (i_ald 0 15) := sd_aload_n dX8_cuts_14 rfl rfl
theorem r214_15 : Sd gd_mt M214 15 (i_getR 8 39 18) := sd_getR ck8 (by decide) rfl (.inl q1493) dX8_cuts_15 rfl
theorem r214_18 : Sd gd_mt M214 18 (i_psh (.int 0) 19) := sd_iconst dX8_cuts_18 (by decide) rfl
theorem r214_19 : Sd gd_mt M214 19 (i_ild 1 20) := sd_iload_n dX8_cuts_19 rfl rfl
theorem r214_20 : Sd gd_mt M214 20 (i_iadd 21) := sd_iadd dX8_cuts_20 rfl
theorem r214_21 : Sd gd_mt M214 21 (i_aldI 31 22) := sd_iald dX8_cuts_21 rfl
theorem r214_22 : Sd gd_mt M214 22 (i_cV 215 1 8 25) := sd_cV2 e215 cal215 q1783 q1785 (rfl : gd_cl 8 = some _) qs56 dX8_cuts_22 rfl
theorem r214_25 : Sd gd_mt M214 25 (i_msk [true, true, false] (i_goto 29)) := sd_msk _ (sd_goto dX8_cuts_25 (by decide))
theorem r214_28 : Sd gd_mt M214 28 (i_psh (.int (-1)) 29) := sd_iconst dX8_cuts_28 (by decide) rfl
theorem r214_29 : Sd gd_mt M214 29 (i_msk [true, true, false] (i_ist 2 30)) := sd_msk _ (sd_istore_n dX8_cuts_29 rfl (by decide) rfl)
theorem r214_30 : Sd gd_mt M214 30 (i_ild 2 31) := sd_iload_n dX8_cuts_30 rfl rfl
theorem r214_31 : Sd gd_mt M214 31 (i_psh (.int (-1)) 32) := sd_iconst dX8_cuts_31 (by decide) rfl
theorem r214_32 : Sd gd_mt M214 32 (i_icne 37 35) := sd_icne dX8_cuts_32 (by decide) rfl
theorem r214_35 : Sd gd_mt M214 35 (i_psh (.int 0) 36) := sd_iconst dX8_cuts_35 (by decide) rfl
theorem r214_36 : Sd gd_mt M214 36 (i_zret) := sd_zret rfl dX8_cuts_36
theorem r214_37 : Sd gd_mt M214 37 (i_ald 0 38) := sd_aload_n dX8_cuts_37 rfl rfl
theorem r214_38 : Sd gd_mt M214 38 (i_getR 8 39 41) := sd_getR ck8 (by decide) rfl (.inl q1493) dX8_cuts_38 rfl
theorem r214_41 : Sd gd_mt M214 41 (i_psh (.int 14) 43) := sd_bipush dX8_cuts_41 (by decide) rfl
theorem r214_43 : Sd gd_mt M214 43 (i_ild 1 44) := sd_iload_n dX8_cuts_43 rfl rfl
theorem r214_44 : Sd gd_mt M214 44 (i_iadd 45) := sd_iadd dX8_cuts_44 rfl
theorem r214_45 : Sd gd_mt M214 45 (i_ild 2 46) := sd_iload_n dX8_cuts_45 rfl rfl
theorem r214_46 : Sd gd_mt M214 46 (i_astI 47) := sd_astI dX8_cuts_46 rfl
theorem r214_47 : Sd gd_mt M214 47 (i_ald 0 48) := sd_aload_n dX8_cuts_47 rfl rfl
theorem r214_48 : Sd gd_mt M214 48 (i_getR 8 39 51) := sd_getR ck8 (by decide) rfl (.inl q1493) dX8_cuts_48 rfl
theorem r214_51 : Sd gd_mt M214 51 (i_psh (.int 21) 53) := sd_bipush dX8_cuts_51 (by decide) rfl
theorem r214_53 : Sd gd_mt M214 53 (i_ild 1 54) := sd_iload_n dX8_cuts_53 rfl rfl
theorem r214_54 : Sd gd_mt M214 54 (i_iadd 55) := sd_iadd dX8_cuts_54 rfl
theorem r214_55 : Sd gd_mt M214 55 (i_ald 0 56) := sd_aload_n dX8_cuts_55 rfl rfl
theorem r214_56 : Sd gd_mt M214 56 (i_getR 8 39 59) := sd_getR ck8 (by decide) rfl (.inl q1493) dX8_cuts_56 rfl
theorem r214_59 : Sd gd_mt M214 59 (i_psh (.int 0) 60) := sd_iconst dX8_cuts_59 (by decide) rfl
theorem r214_60 : Sd gd_mt M214 60 (i_ild 1 61) := sd_iload_n dX8_cuts_60 rfl rfl
theorem r214_61 : Sd gd_mt M214 61 (i_iadd 62) := sd_iadd dX8_cuts_61 rfl
theorem r214_62 : Sd gd_mt M214 62 (i_aldI 31 63) := sd_iald dX8_cuts_62 rfl
theorem r214_63 : Sd gd_mt M214 63 (i_ald 0 64) := sd_aload_n dX8_cuts_63 rfl rfl
theorem r214_64 : Sd gd_mt M214 64 (i_ild 2 65) := sd_iload_n dX8_cuts_64 rfl rfl
theorem r214_65 : Sd gd_mt M214 65 (i_cV 216 1 8 68) := sd_cV2 e216 cal216 q1787 q1789 (rfl : gd_cl 8 = some _) qs57 dX8_cuts_65 rfl
theorem r214_68 : Sd gd_mt M214 68 (i_msk [true, true, false] (i_isub 69)) := sd_msk _ (sd_isub dX8_cuts_68 rfl)
theorem r214_69 : Sd gd_mt M214 69 (i_astI 70) := sd_astI dX8_cuts_69 rfl
theorem r214_70 : Sd gd_mt M214 70 (i_ald 0 71) := sd_aload_n dX8_cuts_70 rfl rfl
def cl214_0 : List (Nat × gd_I) := [(0, i_ald 0 1), (1, i_getR 8 39 4), (4, i_psh (.int 35) 6), (6, i_ild 1 7), (7, i_iadd 8), (8, i_aldI 31 9), (9, i_psh (.int 1) 10), (10, i_icne 28 13), (13, i_ald 0 14), (14, i_ald 0 15), (15, i_getR 8 39 18), (18, i_psh (.int 0) 19), (19, i_ild 1 20), (20, i_iadd 21), (21, i_aldI 31 22), (22, i_cV 215 1 8 25), (25, i_msk [true, true, false] (i_goto 29)), (28, i_psh (.int (-1)) 29), (29, i_msk [true, true, false] (i_ist 2 30)), (30, i_ild 2 31), (31, i_psh (.int (-1)) 32), (32, i_icne 37 35), (35, i_psh (.int 0) 36), (36, i_zret), (37, i_ald 0 38), (38, i_getR 8 39 41), (41, i_psh (.int 14) 43), (43, i_ild 1 44), (44, i_iadd 45), (45, i_ild 2 46), (46, i_astI 47), (47, i_ald 0 48), (48, i_getR 8 39 51), (51, i_psh (.int 21) 53), (53, i_ild 1 54), (54, i_iadd 55), (55, i_ald 0 56), (56, i_getR 8 39 59), (59, i_psh (.int 0) 60), (60, i_ild 1 61), (61, i_iadd 62), (62, i_aldI 31 63), (63, i_ald 0 64), (64, i_ild 2 65), (65, i_cV 216 1 8 68), (68, i_msk [true, true, false] (i_isub 69)), (69, i_astI 70), (70, i_ald 0 71)]
theorem cs214_0 : ∀ q ∈ cl214_0, Sd gd_mt M214 q.1 q.2 := gd_ac r214_0 (gd_ac r214_1 (gd_ac r214_4 (gd_ac r214_6 (gd_ac r214_7 (gd_ac r214_8 (gd_ac r214_9 (gd_ac r214_10 (gd_ac r214_13 (gd_ac r214_14 (gd_ac r214_15 (gd_ac r214_18 (gd_ac r214_19 (gd_ac r214_20 (gd_ac r214_21 (gd_ac r214_22 (gd_ac r214_25 (gd_ac r214_28 (gd_ac r214_29 (gd_ac r214_30 (gd_ac r214_31 (gd_ac r214_32 (gd_ac r214_35 (gd_ac r214_36 (gd_ac r214_37 (gd_ac r214_38 (gd_ac r214_41 (gd_ac r214_43 (gd_ac r214_44 (gd_ac r214_45 (gd_ac r214_46 (gd_ac r214_47 (gd_ac r214_48 (gd_ac r214_51 (gd_ac r214_53 (gd_ac r214_54 (gd_ac r214_55 (gd_ac r214_56 (gd_ac r214_59 (gd_ac r214_60 (gd_ac r214_61 (gd_ac r214_62 (gd_ac r214_63 (gd_ac r214_64 (gd_ac r214_65 (gd_ac r214_68 (gd_ac r214_69 (gd_ac r214_70 (gd_an))))))))))))))))))))))))))))))))))))))))))))))))
theorem r214_71 : Sd gd_mt M214 71 (i_getR 8 39 74) := sd_getR ck8 (by decide) rfl (.inl q1493) dX8_cuts_71 rfl
theorem r214_74 : Sd gd_mt M214 74 (i_psh (.int 28) 76) := sd_bipush dX8_cuts_74 (by decide) rfl
theorem r214_76 : Sd gd_mt M214 76 (i_ild 1 77) := sd_iload_n dX8_cuts_76 rfl rfl
theorem r214_77 : Sd gd_mt M214 77 (i_iadd 78) := sd_iadd dX8_cuts_77 rfl
theorem r214_78 : Sd gd_mt M214 78 (i_ald 0 79) := sd_aload_n dX8_cuts_78 rfl rfl
theorem r214_79 : Sd gd_mt M214 79 (i_getR 8 39 82) := sd_getR ck8 (by decide) rfl (.inl q1493) dX8_cuts_79 rfl
theorem r214_82 : Sd gd_mt M214 82 (i_psh (.int 49) 84) := sd_bipush dX8_cuts_82 (by decide) rfl
theorem r214_84 : Sd gd_mt M214 84 (i_aldI 31 85) := sd_iald dX8_cuts_84 rfl
theorem r214_85 : Sd gd_mt M214 85 (i_astI 86) := sd_astI dX8_cuts_85 rfl
theorem r214_86 : Sd gd_mt M214 86 (i_psh (.int 1) 87) := sd_iconst dX8_cuts_86 (by decide) rfl
theorem r214_87 : Sd gd_mt M214 87 (i_zret) := sd_zret rfl dX8_cuts_87
def cl214_1 : List (Nat × gd_I) := [(71, i_getR 8 39 74), (74, i_psh (.int 28) 76), (76, i_ild 1 77), (77, i_iadd 78), (78, i_ald 0 79), (79, i_getR 8 39 82), (82, i_psh (.int 49) 84), (84, i_aldI 31 85), (85, i_astI 86), (86, i_psh (.int 1) 87), (87, i_zret)]
theorem cs214_1 : ∀ q ∈ cl214_1, Sd gd_mt M214 q.1 q.2 := gd_ac r214_71 (gd_ac r214_74 (gd_ac r214_76 (gd_ac r214_77 (gd_ac r214_78 (gd_ac r214_79 (gd_ac r214_82 (gd_ac r214_84 (gd_ac r214_85 (gd_ac r214_86 (gd_ac r214_87 (gd_an)))))))))))
def cd214 (pc : Nat) : gd_I := if pc < 71 then lkI cl214_0 pc else lkI cl214_1 pc
theorem cg214 : ∀ pc, Sd gd_mt M214 pc (cd214 pc) := by
  intro pc
  unfold cd214
  by_cases h0 : pc < 71
  · rw [if_pos h0]; exact sd_lk cs214_0 pc
  rw [if_neg h0]
  exact sd_lk cs214_1 pc
theorem r215_0 : Sd gd_mt M215 0 (i_psh (.int 0) 1) := sd_iconst dX8_boardAt_0 (by decide) rfl
theorem r215_1 : Sd gd_mt M215 1 (i_ist 2 2) := sd_istore_n dX8_boardAt_1 rfl (by decide) rfl
theorem r215_2 : Sd gd_mt M215 2 (i_msk [true, true, true] (i_ild 2 3)) := sd_msk _ (sd_iload_n dX8_boardAt_2 rfl rfl)
theorem r215_3 : Sd gd_mt M215 3 (i_ald 0 4) := sd_aload_n dX8_boardAt_3 rfl rfl
theorem r215_4 : Sd gd_mt M215 4 (i_getI 8 20 7) := sd_getI ck8 (by decide) rfl (.inl q1474) dX8_boardAt_4 rfl
theorem r215_7 : Sd gd_mt M215 7 (i_icge 29 10) := sd_icge dX8_boardAt_7 (by decide) rfl
theorem r215_10 : Sd gd_mt M215 10 (i_ald 0 11) := sd_aload_n dX8_boardAt_10 rfl rfl
theorem r215_11 : Sd gd_mt M215 11 (i_ild 2 12) := sd_iload_n dX8_boardAt_11 rfl rfl
theorem r215_12 : Sd gd_mt M215 12 (i_psh (.int 1) 13) := sd_iconst dX8_boardAt_12 (by decide) rfl
theorem r215_13 : Sd gd_mt M215 13 (i_iadd 14) := sd_iadd dX8_boardAt_13 rfl
theorem r215_14 : Sd gd_mt M215 14 (i_cV 216 1 8 17) := sd_cV2 e216 cal216 q1787 q1789 (rfl : gd_cl 8 = some _) qs57 dX8_boardAt_14 rfl
theorem r215_17 : Sd gd_mt M215 17 (i_msk [true, true, true] (i_ild 1 18)) := sd_msk _ (sd_iload_n dX8_boardAt_17 rfl rfl)
theorem r215_18 : Sd gd_mt M215 18 (i_iclt 23 21) := sd_iclt dX8_boardAt_18 (by decide) rfl
theorem r215_21 : Sd gd_mt M215 21 (i_ild 2 22) := sd_iload_n dX8_boardAt_21 rfl rfl
theorem r215_22 : Sd gd_mt M215 22 (i_iret) := sd_iret rfl dX8_boardAt_22
theorem r215_23 : Sd gd_mt M215 23 (i_inc 2 1 26) := sd_iinc dX8_boardAt_23 (by decide) (by decide) rfl
theorem r215_26 : Sd gd_mt M215 26 (i_goto 2) := sd_goto dX8_boardAt_26 (by decide)
theorem r215_29 : Sd gd_mt M215 29 (i_psh (.int (-1)) 30) := sd_iconst dX8_boardAt_29 (by decide) rfl
theorem r215_30 : Sd gd_mt M215 30 (i_iret) := sd_iret rfl dX8_boardAt_30
def cl215_0 : List (Nat × gd_I) := [(0, i_psh (.int 0) 1), (1, i_ist 2 2), (2, i_msk [true, true, true] (i_ild 2 3)), (3, i_ald 0 4), (4, i_getI 8 20 7), (7, i_icge 29 10), (10, i_ald 0 11), (11, i_ild 2 12), (12, i_psh (.int 1) 13), (13, i_iadd 14), (14, i_cV 216 1 8 17), (17, i_msk [true, true, true] (i_ild 1 18)), (18, i_iclt 23 21), (21, i_ild 2 22), (22, i_iret), (23, i_inc 2 1 26), (26, i_goto 2), (29, i_psh (.int (-1)) 30), (30, i_iret)]
theorem cs215_0 : ∀ q ∈ cl215_0, Sd gd_mt M215 q.1 q.2 := gd_ac r215_0 (gd_ac r215_1 (gd_ac r215_2 (gd_ac r215_3 (gd_ac r215_4 (gd_ac r215_7 (gd_ac r215_10 (gd_ac r215_11 (gd_ac r215_12 (gd_ac r215_13 (gd_ac r215_14 (gd_ac r215_17 (gd_ac r215_18 (gd_ac r215_21 (gd_ac r215_22 (gd_ac r215_23 (gd_ac r215_26 (gd_ac r215_29 (gd_ac r215_30 (gd_an)))))))))))))))))))
def cd215 (pc : Nat) : gd_I := lkI cl215_0 pc
theorem cg215 : ∀ pc, Sd gd_mt M215 pc (cd215 pc) := sd_lk cs215_0
theorem r216_0 : Sd gd_mt M216 0 (i_psh (.int 0) 1) := sd_iconst dX8_below_0 (by decide) rfl
theorem r216_1 : Sd gd_mt M216 1 (i_ist 2 2) := sd_istore_n dX8_below_1 rfl (by decide) rfl
theorem r216_2 : Sd gd_mt M216 2 (i_psh (.int 0) 3) := sd_iconst dX8_below_2 (by decide) rfl
theorem r216_3 : Sd gd_mt M216 3 (i_ist 3 4) := sd_istore_n dX8_below_3 rfl (by decide) rfl
theorem r216_4 : Sd gd_mt M216 4 (i_msk [true, true, true, true] (i_ild 3 5)) := sd_msk _ (sd_iload_n dX8_below_4 rfl rfl)
theorem r216_5 : Sd gd_mt M216 5 (i_ild 1 6) := sd_iload_n dX8_below_5 rfl rfl
theorem r216_6 : Sd gd_mt M216 6 (i_icge 27 9) := sd_icge dX8_below_6 (by decide) rfl
theorem r216_9 : Sd gd_mt M216 9 (i_ild 2 10) := sd_iload_n dX8_below_9 rfl rfl
theorem r216_10 : Sd gd_mt M216 10 (i_ald 0 11) := sd_aload_n dX8_below_10 rfl rfl
theorem r216_11 : Sd gd_mt M216 11 (i_getR 8 39 14) := sd_getR ck8 (by decide) rfl (.inl q1493) dX8_below_11 rfl
theorem r216_14 : Sd gd_mt M216 14 (i_psh (.int 42) 16) := sd_bipush dX8_below_14 (by decide) rfl
theorem r216_16 : Sd gd_mt M216 16 (i_ild 3 17) := sd_iload_n dX8_below_16 rfl rfl
theorem r216_17 : Sd gd_mt M216 17 (i_iadd 18) := sd_iadd dX8_below_17 rfl
theorem r216_18 : Sd gd_mt M216 18 (i_aldI 31 19) := sd_iald dX8_below_18 rfl
theorem r216_19 : Sd gd_mt M216 19 (i_iadd 20) := sd_iadd dX8_below_19 rfl
theorem r216_20 : Sd gd_mt M216 20 (i_ist 2 21) := sd_istore_n dX8_below_20 rfl (by decide) rfl
theorem r216_21 : Sd gd_mt M216 21 (i_inc 3 1 24) := sd_iinc dX8_below_21 (by decide) (by decide) rfl
theorem r216_24 : Sd gd_mt M216 24 (i_goto 4) := sd_goto dX8_below_24 (by decide)
theorem r216_27 : Sd gd_mt M216 27 (i_ild 2 28) := sd_iload_n dX8_below_27 rfl rfl
theorem r216_28 : Sd gd_mt M216 28 (i_iret) := sd_iret rfl dX8_below_28
def cl216_0 : List (Nat × gd_I) := [(0, i_psh (.int 0) 1), (1, i_ist 2 2), (2, i_psh (.int 0) 3), (3, i_ist 3 4), (4, i_msk [true, true, true, true] (i_ild 3 5)), (5, i_ild 1 6), (6, i_icge 27 9), (9, i_ild 2 10), (10, i_ald 0 11), (11, i_getR 8 39 14), (14, i_psh (.int 42) 16), (16, i_ild 3 17), (17, i_iadd 18), (18, i_aldI 31 19), (19, i_iadd 20), (20, i_ist 2 21), (21, i_inc 3 1 24), (24, i_goto 4), (27, i_ild 2 28), (28, i_iret)]
theorem cs216_0 : ∀ q ∈ cl216_0, Sd gd_mt M216 q.1 q.2 := gd_ac r216_0 (gd_ac r216_1 (gd_ac r216_2 (gd_ac r216_3 (gd_ac r216_4 (gd_ac r216_5 (gd_ac r216_6 (gd_ac r216_9 (gd_ac r216_10 (gd_ac r216_11 (gd_ac r216_14 (gd_ac r216_16 (gd_ac r216_17 (gd_ac r216_18 (gd_ac r216_19 (gd_ac r216_20 (gd_ac r216_21 (gd_ac r216_24 (gd_ac r216_27 (gd_ac r216_28 (gd_an))))))))))))))))))))
def cd216 (pc : Nat) : gd_I := lkI cl216_0 pc
theorem cg216 : ∀ pc, Sd gd_mt M216 pc (cd216 pc) := sd_lk cs216_0
theorem r217_0 : Sd gd_mt M217 0 (i_ald 0 1) := sd_aload_n dX8_becomes_0 rfl rfl
theorem r217_1 : Sd gd_mt M217 1 (i_getR 8 39 4) := sd_getR ck8 (by decide) rfl (.inl q1493) dX8_becomes_1 rfl
theorem r217_4 : Sd gd_mt M217 4 (i_ild 1 5) := sd_iload_n dX8_becomes_4 rfl rfl
theorem r217_5 : Sd gd_mt M217 5 (i_aldI 31 6) := sd_iald dX8_becomes_5 rfl
theorem r217_6 : Sd gd_mt M217 6 (i_ild 2 7) := sd_iload_n dX8_becomes_6 rfl rfl
theorem r217_7 : Sd gd_mt M217 7 (i_icne 12 10) := sd_icne dX8_becomes_7 (by decide) rfl
theorem r217_10 : Sd gd_mt M217 10 (i_psh (.int 0) 11) := sd_iconst dX8_becomes_10 (by decide) rfl
theorem r217_11 : Sd gd_mt M217 11 (i_zret) := sd_zret rfl dX8_becomes_11
theorem r217_12 : Sd gd_mt M217 12 (i_ald 0 13) := sd_aload_n dX8_becomes_12 rfl rfl
theorem r217_13 : Sd gd_mt M217 13 (i_getR 8 39 16) := sd_getR ck8 (by decide) rfl (.inl q1493) dX8_becomes_13 rfl
theorem r217_16 : Sd gd_mt M217 16 (i_ild 1 17) := sd_iload_n dX8_becomes_16 rfl rfl
theorem r217_17 : Sd gd_mt M217 17 (i_ild 2 18) := sd_iload_n dX8_becomes_17 rfl rfl
theorem r217_18 : Sd gd_mt M217 18 (i_astI 19) := sd_astI dX8_becomes_18 rfl
theorem r217_19 : Sd gd_mt M217 19 (i_psh (.int 1) 20) := sd_iconst dX8_becomes_19 (by decide) rfl
theorem r217_20 : Sd gd_mt M217 20 (i_zret) := sd_zret rfl dX8_becomes_20
def cl217_0 : List (Nat × gd_I) := [(0, i_ald 0 1), (1, i_getR 8 39 4), (4, i_ild 1 5), (5, i_aldI 31 6), (6, i_ild 2 7), (7, i_icne 12 10), (10, i_psh (.int 0) 11), (11, i_zret), (12, i_ald 0 13), (13, i_getR 8 39 16), (16, i_ild 1 17), (17, i_ild 2 18), (18, i_astI 19), (19, i_psh (.int 1) 20), (20, i_zret)]
theorem cs217_0 : ∀ q ∈ cl217_0, Sd gd_mt M217 q.1 q.2 := gd_ac r217_0 (gd_ac r217_1 (gd_ac r217_4 (gd_ac r217_5 (gd_ac r217_6 (gd_ac r217_7 (gd_ac r217_10 (gd_ac r217_11 (gd_ac r217_12 (gd_ac r217_13 (gd_ac r217_16 (gd_ac r217_17 (gd_ac r217_18 (gd_ac r217_19 (gd_ac r217_20 (gd_an)))))))))))))))
def cd217 (pc : Nat) : gd_I := lkI cl217_0 pc
theorem cg217 : ∀ pc, Sd gd_mt M217 pc (cd217 pc) := sd_lk cs217_0
theorem r218_0 : Sd gd_mt M218 0 (i_ald 0 1) := sd_aload_n dX8_planed_0 rfl rfl
theorem r218_1 : Sd gd_mt M218 1 (i_getR 8 39 4) := sd_getR ck8 (by decide) rfl (.inl q1493) dX8_planed_1 rfl
theorem r218_4 : Sd gd_mt M218 4 (i_psh (.int 42) 6) := sd_bipush dX8_planed_4 (by decide) rfl
theorem r218_6 : Sd gd_mt M218 6 (i_ild 1 7) := sd_iload_n dX8_planed_6 rfl rfl
theorem r218_7 : Sd gd_mt M218 7 (i_iadd 8) := sd_iadd dX8_planed_7 rfl
theorem r218_8 : Sd gd_mt M218 8 (i_aldI 31 9) := sd_iald dX8_planed_8 rfl
theorem r218_9 : Sd gd_mt M218 9 (i_ild 2 10) := sd_iload_n dX8_planed_9 rfl rfl
theorem r218_10 : Sd gd_mt M218 10 (i_icgt 15 13) := sd_icgt dX8_planed_10 (by decide) rfl
theorem r218_13 : Sd gd_mt M218 13 (i_psh (.int 0) 14) := sd_iconst dX8_planed_13 (by decide) rfl
theorem r218_14 : Sd gd_mt M218 14 (i_zret) := sd_zret rfl dX8_planed_14
theorem r218_15 : Sd gd_mt M218 15 (i_ald 0 16) := sd_aload_n dX8_planed_15 rfl rfl
theorem r218_16 : Sd gd_mt M218 16 (i_getR 8 39 19) := sd_getR ck8 (by decide) rfl (.inl q1493) dX8_planed_16 rfl
theorem r218_19 : Sd gd_mt M218 19 (i_psh (.int 42) 21) := sd_bipush dX8_planed_19 (by decide) rfl
theorem r218_21 : Sd gd_mt M218 21 (i_ild 1 22) := sd_iload_n dX8_planed_21 rfl rfl
theorem r218_22 : Sd gd_mt M218 22 (i_iadd 23) := sd_iadd dX8_planed_22 rfl
theorem r218_23 : Sd gd_mt M218 23 (i_dup2 24) := sd_dup2 dX8_planed_23 rfl
theorem r218_24 : Sd gd_mt M218 24 (i_aldI 31 25) := sd_iald dX8_planed_24 rfl
theorem r218_25 : Sd gd_mt M218 25 (i_ild 2 26) := sd_iload_n dX8_planed_25 rfl rfl
theorem r218_26 : Sd gd_mt M218 26 (i_isub 27) := sd_isub dX8_planed_26 rfl
theorem r218_27 : Sd gd_mt M218 27 (i_astI 28) := sd_astI dX8_planed_27 rfl
theorem r218_28 : Sd gd_mt M218 28 (i_psh (.int 0) 29) := sd_iconst dX8_planed_28 (by decide) rfl
theorem r218_29 : Sd gd_mt M218 29 (i_ist 3 30) := sd_istore_n dX8_planed_29 rfl (by decide) rfl
theorem r218_30 : Sd gd_mt M218 30 (i_msk [true, true, false, true] (i_ild 3 31)) := sd_msk _ (sd_iload_n dX8_planed_30 rfl rfl)
theorem r218_31 : Sd gd_mt M218 31 (i_ald 0 32) := sd_aload_n dX8_planed_31 rfl rfl
theorem r218_32 : Sd gd_mt M218 32 (i_getI 8 21 35) := sd_getI ck8 (by decide) rfl (.inl q1475) dX8_planed_32 rfl
theorem r218_35 : Sd gd_mt M218 35 (i_icge 96 38) := sd_icge dX8_planed_35 (by decide) rfl
theorem r218_38 : Sd gd_mt M218 38 (i_ald 0 39) := sd_aload_n dX8_planed_38 rfl rfl
theorem r218_39 : Sd gd_mt M218 39 (i_getR 8 39 42) := sd_getR ck8 (by decide) rfl (.inl q1493) dX8_planed_39 rfl
theorem r218_42 : Sd gd_mt M218 42 (i_psh (.int 14) 44) := sd_bipush dX8_planed_42 (by decide) rfl
theorem r218_44 : Sd gd_mt M218 44 (i_ild 3 45) := sd_iload_n dX8_planed_44 rfl rfl
theorem r218_45 : Sd gd_mt M218 45 (i_iadd 46) := sd_iadd dX8_planed_45 rfl
theorem r218_46 : Sd gd_mt M218 46 (i_aldI 31 47) := sd_iald dX8_planed_46 rfl
theorem r218_47 : Sd gd_mt M218 47 (i_ild 1 48) := sd_iload_n dX8_planed_47 rfl rfl
theorem r218_48 : Sd gd_mt M218 48 (i_icne 90 51) := sd_icne dX8_planed_48 (by decide) rfl
theorem r218_51 : Sd gd_mt M218 51 (i_ald 0 52) := sd_aload_n dX8_planed_51 rfl rfl
theorem r218_52 : Sd gd_mt M218 52 (i_getR 8 39 55) := sd_getR ck8 (by decide) rfl (.inl q1493) dX8_planed_52 rfl
theorem r218_55 : Sd gd_mt M218 55 (i_psh (.int 21) 57) := sd_bipush dX8_planed_55 (by decide) rfl
theorem r218_57 : Sd gd_mt M218 57 (i_ild 3 58) := sd_iload_n dX8_planed_57 rfl rfl
theorem r218_58 : Sd gd_mt M218 58 (i_iadd 59) := sd_iadd dX8_planed_58 rfl
theorem r218_59 : Sd gd_mt M218 59 (i_aldI 31 60) := sd_iald dX8_planed_59 rfl
theorem r218_60 : Sd gd_mt M218 60 (i_ald 0 61) := sd_aload_n dX8_planed_60 rfl rfl
theorem r218_61 : Sd gd_mt M218 61 (i_getR 8 39 64) := sd_getR ck8 (by decide) rfl (.inl q1493) dX8_planed_61 rfl
theorem r218_64 : Sd gd_mt M218 64 (i_psh (.int 42) 66) := sd_bipush dX8_planed_64 (by decide) rfl
theorem r218_66 : Sd gd_mt M218 66 (i_ild 1 67) := sd_iload_n dX8_planed_66 rfl rfl
theorem r218_67 : Sd gd_mt M218 67 (i_iadd 68) := sd_iadd dX8_planed_67 rfl
theorem r218_68 : Sd gd_mt M218 68 (i_aldI 31 69) := sd_iald dX8_planed_68 rfl
theorem r218_69 : Sd gd_mt M218 69 (i_icle 90 72) := sd_icle dX8_planed_69 (by decide) rfl
theorem r218_72 : Sd gd_mt M218 72 (i_ald 0 73) := sd_aload_n dX8_planed_72 rfl rfl
def cl218_0 : List (Nat × gd_I) := [(0, i_ald 0 1), (1, i_getR 8 39 4), (4, i_psh (.int 42) 6), (6, i_ild 1 7), (7, i_iadd 8), (8, i_aldI 31 9), (9, i_ild 2 10), (10, i_icgt 15 13), (13, i_psh (.int 0) 14), (14, i_zret), (15, i_ald 0 16), (16, i_getR 8 39 19), (19, i_psh (.int 42) 21), (21, i_ild 1 22), (22, i_iadd 23), (23, i_dup2 24), (24, i_aldI 31 25), (25, i_ild 2 26), (26, i_isub 27), (27, i_astI 28), (28, i_psh (.int 0) 29), (29, i_ist 3 30), (30, i_msk [true, true, false, true] (i_ild 3 31)), (31, i_ald 0 32), (32, i_getI 8 21 35), (35, i_icge 96 38), (38, i_ald 0 39), (39, i_getR 8 39 42), (42, i_psh (.int 14) 44), (44, i_ild 3 45), (45, i_iadd 46), (46, i_aldI 31 47), (47, i_ild 1 48), (48, i_icne 90 51), (51, i_ald 0 52), (52, i_getR 8 39 55), (55, i_psh (.int 21) 57), (57, i_ild 3 58), (58, i_iadd 59), (59, i_aldI 31 60), (60, i_ald 0 61), (61, i_getR 8 39 64), (64, i_psh (.int 42) 66), (66, i_ild 1 67), (67, i_iadd 68), (68, i_aldI 31 69), (69, i_icle 90 72), (72, i_ald 0 73)]
theorem cs218_0 : ∀ q ∈ cl218_0, Sd gd_mt M218 q.1 q.2 := gd_ac r218_0 (gd_ac r218_1 (gd_ac r218_4 (gd_ac r218_6 (gd_ac r218_7 (gd_ac r218_8 (gd_ac r218_9 (gd_ac r218_10 (gd_ac r218_13 (gd_ac r218_14 (gd_ac r218_15 (gd_ac r218_16 (gd_ac r218_19 (gd_ac r218_21 (gd_ac r218_22 (gd_ac r218_23 (gd_ac r218_24 (gd_ac r218_25 (gd_ac r218_26 (gd_ac r218_27 (gd_ac r218_28 (gd_ac r218_29 (gd_ac r218_30 (gd_ac r218_31 (gd_ac r218_32 (gd_ac r218_35 (gd_ac r218_38 (gd_ac r218_39 (gd_ac r218_42 (gd_ac r218_44 (gd_ac r218_45 (gd_ac r218_46 (gd_ac r218_47 (gd_ac r218_48 (gd_ac r218_51 (gd_ac r218_52 (gd_ac r218_55 (gd_ac r218_57 (gd_ac r218_58 (gd_ac r218_59 (gd_ac r218_60 (gd_ac r218_61 (gd_ac r218_64 (gd_ac r218_66 (gd_ac r218_67 (gd_ac r218_68 (gd_ac r218_69 (gd_ac r218_72 (gd_an))))))))))))))))))))))))))))))))))))))))))))))))
theorem r218_73 : Sd gd_mt M218 73 (i_getR 8 39 76) := sd_getR ck8 (by decide) rfl (.inl q1493) dX8_planed_73 rfl
theorem r218_76 : Sd gd_mt M218 76 (i_psh (.int 21) 78) := sd_bipush dX8_planed_76 (by decide) rfl
theorem r218_78 : Sd gd_mt M218 78 (i_ild 3 79) := sd_iload_n dX8_planed_78 rfl rfl
theorem r218_79 : Sd gd_mt M218 79 (i_iadd 80) := sd_iadd dX8_planed_79 rfl
theorem r218_80 : Sd gd_mt M218 80 (i_ald 0 81) := sd_aload_n dX8_planed_80 rfl rfl
theorem r218_81 : Sd gd_mt M218 81 (i_getR 8 39 84) := sd_getR ck8 (by decide) rfl (.inl q1493) dX8_planed_81 rfl
theorem r218_84 : Sd gd_mt M218 84 (i_psh (.int 42) 86) := sd_bipush dX8_planed_84 (by decide) rfl
theorem r218_86 : Sd gd_mt M218 86 (i_ild 1 87) := sd_iload_n dX8_planed_86 rfl rfl
theorem r218_87 : Sd gd_mt M218 87 (i_iadd 88) := sd_iadd dX8_planed_87 rfl
theorem r218_88 : Sd gd_mt M218 88 (i_aldI 31 89) := sd_iald dX8_planed_88 rfl
theorem r218_89 : Sd gd_mt M218 89 (i_astI 90) := sd_astI dX8_planed_89 rfl
theorem r218_90 : Sd gd_mt M218 90 (i_msk [true, true, false, true] (i_inc 3 1 93)) := sd_msk _ (sd_iinc dX8_planed_90 (by decide) (by decide) rfl)
theorem r218_93 : Sd gd_mt M218 93 (i_goto 30) := sd_goto dX8_planed_93 (by decide)
theorem r218_96 : Sd gd_mt M218 96 (i_psh (.int 1) 97) := sd_iconst dX8_planed_96 (by decide) rfl
theorem r218_97 : Sd gd_mt M218 97 (i_zret) := sd_zret rfl dX8_planed_97
def cl218_1 : List (Nat × gd_I) := [(73, i_getR 8 39 76), (76, i_psh (.int 21) 78), (78, i_ild 3 79), (79, i_iadd 80), (80, i_ald 0 81), (81, i_getR 8 39 84), (84, i_psh (.int 42) 86), (86, i_ild 1 87), (87, i_iadd 88), (88, i_aldI 31 89), (89, i_astI 90), (90, i_msk [true, true, false, true] (i_inc 3 1 93)), (93, i_goto 30), (96, i_psh (.int 1) 97), (97, i_zret)]
theorem cs218_1 : ∀ q ∈ cl218_1, Sd gd_mt M218 q.1 q.2 := gd_ac r218_73 (gd_ac r218_76 (gd_ac r218_78 (gd_ac r218_79 (gd_ac r218_80 (gd_ac r218_81 (gd_ac r218_84 (gd_ac r218_86 (gd_ac r218_87 (gd_ac r218_88 (gd_ac r218_89 (gd_ac r218_90 (gd_ac r218_93 (gd_ac r218_96 (gd_ac r218_97 (gd_an)))))))))))))))
def cd218 (pc : Nat) : gd_I := if pc < 73 then lkI cl218_0 pc else lkI cl218_1 pc
theorem cg218 : ∀ pc, Sd gd_mt M218 pc (cd218 pc) := by
  intro pc
  unfold cd218
  by_cases h0 : pc < 73
  · rw [if_pos h0]; exact sd_lk cs218_0 pc
  rw [if_neg h0]
  exact sd_lk cs218_1 pc
theorem r219_0 : Sd gd_mt M219 0 (i_psh (.int 0) 1) := sd_iconst dX8_goesOn_0 (by decide) rfl
theorem r219_1 : Sd gd_mt M219 1 (i_ist 1 2) := sd_istore_n dX8_goesOn_1 rfl (by decide) rfl
theorem r219_2 : Sd gd_mt M219 2 (i_msk [true, true] (i_ild 1 3)) := sd_msk _ (sd_iload_n dX8_goesOn_2 rfl rfl)
theorem r219_3 : Sd gd_mt M219 3 (i_ald 0 4) := sd_aload_n dX8_goesOn_3 rfl rfl
theorem r219_4 : Sd gd_mt M219 4 (i_getI 8 21 7) := sd_getI ck8 (by decide) rfl (.inl q1475) dX8_goesOn_4 rfl
theorem r219_7 : Sd gd_mt M219 7 (i_icge 27 10) := sd_icge dX8_goesOn_7 (by decide) rfl
theorem r219_10 : Sd gd_mt M219 10 (i_ald 0 11) := sd_aload_n dX8_goesOn_10 rfl rfl
theorem r219_11 : Sd gd_mt M219 11 (i_getR 8 41 14) := sd_getR ck8 (by decide) rfl (.inl q1495) dX8_goesOn_11 rfl
theorem r219_14 : Sd gd_mt M219 14 (i_ild 1 15) := sd_iload_n dX8_goesOn_14 rfl rfl
theorem r219_15 : Sd gd_mt M219 15 (i_ald 0 16) := sd_aload_n dX8_goesOn_15 rfl rfl
theorem r219_16 : Sd gd_mt M219 16 (i_ild 1 17) := sd_iload_n dX8_goesOn_16 rfl rfl
theorem r219_17 : Sd gd_mt M219 17 (i_cV 220 1 8 20) := sd_cV2 e220 cal220 q1803 q1805 (rfl : gd_cl 8 = some _) qs61 dX8_goesOn_17 rfl
theorem r219_20 : Sd gd_mt M219 20 (i_msk [true, true] (i_astI 21)) := sd_msk _ (sd_astI dX8_goesOn_20 rfl)
theorem r219_21 : Sd gd_mt M219 21 (i_inc 1 1 24) := sd_iinc dX8_goesOn_21 (by decide) (by decide) rfl
theorem r219_24 : Sd gd_mt M219 24 (i_goto 2) := sd_goto dX8_goesOn_24 (by decide)
theorem r219_27 : Sd gd_mt M219 27 (i_psh (.int 0) 28) := sd_iconst dX8_goesOn_27 (by decide) rfl
theorem r219_28 : Sd gd_mt M219 28 (i_ist 1 29) := sd_istore_n dX8_goesOn_28 rfl (by decide) rfl
theorem r219_29 : Sd gd_mt M219 29 (i_msk [true, true] (i_ild 1 30)) := sd_msk _ (sd_iload_n dX8_goesOn_29 rfl rfl)
theorem r219_30 : Sd gd_mt M219 30 (i_ald 0 31) := sd_aload_n dX8_goesOn_30 rfl rfl
theorem r219_31 : Sd gd_mt M219 31 (i_getI 8 21 34) := sd_getI ck8 (by decide) rfl (.inl q1475) dX8_goesOn_31 rfl
theorem r219_34 : Sd gd_mt M219 34 (i_icge 69 37) := sd_icge dX8_goesOn_34 (by decide) rfl
theorem r219_37 : Sd gd_mt M219 37 (i_ald 0 38) := sd_aload_n dX8_goesOn_37 rfl rfl
theorem r219_38 : Sd gd_mt M219 38 (i_getR 8 39 41) := sd_getR ck8 (by decide) rfl (.inl q1493) dX8_goesOn_38 rfl
theorem r219_41 : Sd gd_mt M219 41 (i_psh (.int 0) 42) := sd_iconst dX8_goesOn_41 (by decide) rfl
theorem r219_42 : Sd gd_mt M219 42 (i_ild 1 43) := sd_iload_n dX8_goesOn_42 rfl rfl
theorem r219_43 : Sd gd_mt M219 43 (i_iadd 44) := sd_iadd dX8_goesOn_43 rfl
theorem r219_44 : Sd gd_mt M219 44 (i_ald 0 45) := sd_aload_n dX8_goesOn_44 rfl rfl
theorem r219_45 : Sd gd_mt M219 45 (i_getR 8 39 48) := sd_getR ck8 (by decide) rfl (.inl q1493) dX8_goesOn_45 rfl
theorem r219_48 : Sd gd_mt M219 48 (i_psh (.int 0) 49) := sd_iconst dX8_goesOn_48 (by decide) rfl
theorem r219_49 : Sd gd_mt M219 49 (i_ild 1 50) := sd_iload_n dX8_goesOn_49 rfl rfl
theorem r219_50 : Sd gd_mt M219 50 (i_iadd 51) := sd_iadd dX8_goesOn_50 rfl
theorem r219_51 : Sd gd_mt M219 51 (i_aldI 31 52) := sd_iald dX8_goesOn_51 rfl
theorem r219_52 : Sd gd_mt M219 52 (i_ald 0 53) := sd_aload_n dX8_goesOn_52 rfl rfl
theorem r219_53 : Sd gd_mt M219 53 (i_getR 8 41 56) := sd_getR ck8 (by decide) rfl (.inl q1495) dX8_goesOn_53 rfl
theorem r219_56 : Sd gd_mt M219 56 (i_ild 1 57) := sd_iload_n dX8_goesOn_56 rfl rfl
theorem r219_57 : Sd gd_mt M219 57 (i_aldI 31 58) := sd_iald dX8_goesOn_57 rfl
theorem r219_58 : Sd gd_mt M219 58 (i_iadd 59) := sd_iadd dX8_goesOn_58 rfl
theorem r219_59 : Sd gd_mt M219 59 (i_cS 228 1 62) := sd_cS2 e228 cal228 q1834 q1835 dX8_goesOn_59 rfl
theorem r219_62 : Sd gd_mt M219 62 (i_msk [true, true] (i_astI 63)) := sd_msk _ (sd_astI dX8_goesOn_62 rfl)
theorem r219_63 : Sd gd_mt M219 63 (i_inc 1 1 66) := sd_iinc dX8_goesOn_63 (by decide) (by decide) rfl
theorem r219_66 : Sd gd_mt M219 66 (i_goto 29) := sd_goto dX8_goesOn_66 (by decide)
theorem r219_69 : Sd gd_mt M219 69 (i_psh (.int 0) 70) := sd_iconst dX8_goesOn_69 (by decide) rfl
theorem r219_70 : Sd gd_mt M219 70 (i_ist 1 71) := sd_istore_n dX8_goesOn_70 rfl (by decide) rfl
theorem r219_71 : Sd gd_mt M219 71 (i_msk [true, true] (i_ild 1 72)) := sd_msk _ (sd_iload_n dX8_goesOn_71 rfl rfl)
theorem r219_72 : Sd gd_mt M219 72 (i_ald 0 73) := sd_aload_n dX8_goesOn_72 rfl rfl
theorem r219_73 : Sd gd_mt M219 73 (i_getI 8 20 76) := sd_getI ck8 (by decide) rfl (.inl q1474) dX8_goesOn_73 rfl
theorem r219_76 : Sd gd_mt M219 76 (i_icge 112 79) := sd_icge dX8_goesOn_76 (by decide) rfl
theorem r219_79 : Sd gd_mt M219 79 (i_ald 0 80) := sd_aload_n dX8_goesOn_79 rfl rfl
def cl219_0 : List (Nat × gd_I) := [(0, i_psh (.int 0) 1), (1, i_ist 1 2), (2, i_msk [true, true] (i_ild 1 3)), (3, i_ald 0 4), (4, i_getI 8 21 7), (7, i_icge 27 10), (10, i_ald 0 11), (11, i_getR 8 41 14), (14, i_ild 1 15), (15, i_ald 0 16), (16, i_ild 1 17), (17, i_cV 220 1 8 20), (20, i_msk [true, true] (i_astI 21)), (21, i_inc 1 1 24), (24, i_goto 2), (27, i_psh (.int 0) 28), (28, i_ist 1 29), (29, i_msk [true, true] (i_ild 1 30)), (30, i_ald 0 31), (31, i_getI 8 21 34), (34, i_icge 69 37), (37, i_ald 0 38), (38, i_getR 8 39 41), (41, i_psh (.int 0) 42), (42, i_ild 1 43), (43, i_iadd 44), (44, i_ald 0 45), (45, i_getR 8 39 48), (48, i_psh (.int 0) 49), (49, i_ild 1 50), (50, i_iadd 51), (51, i_aldI 31 52), (52, i_ald 0 53), (53, i_getR 8 41 56), (56, i_ild 1 57), (57, i_aldI 31 58), (58, i_iadd 59), (59, i_cS 228 1 62), (62, i_msk [true, true] (i_astI 63)), (63, i_inc 1 1 66), (66, i_goto 29), (69, i_psh (.int 0) 70), (70, i_ist 1 71), (71, i_msk [true, true] (i_ild 1 72)), (72, i_ald 0 73), (73, i_getI 8 20 76), (76, i_icge 112 79), (79, i_ald 0 80)]
theorem cs219_0 : ∀ q ∈ cl219_0, Sd gd_mt M219 q.1 q.2 := gd_ac r219_0 (gd_ac r219_1 (gd_ac r219_2 (gd_ac r219_3 (gd_ac r219_4 (gd_ac r219_7 (gd_ac r219_10 (gd_ac r219_11 (gd_ac r219_14 (gd_ac r219_15 (gd_ac r219_16 (gd_ac r219_17 (gd_ac r219_20 (gd_ac r219_21 (gd_ac r219_24 (gd_ac r219_27 (gd_ac r219_28 (gd_ac r219_29 (gd_ac r219_30 (gd_ac r219_31 (gd_ac r219_34 (gd_ac r219_37 (gd_ac r219_38 (gd_ac r219_41 (gd_ac r219_42 (gd_ac r219_43 (gd_ac r219_44 (gd_ac r219_45 (gd_ac r219_48 (gd_ac r219_49 (gd_ac r219_50 (gd_ac r219_51 (gd_ac r219_52 (gd_ac r219_53 (gd_ac r219_56 (gd_ac r219_57 (gd_ac r219_58 (gd_ac r219_59 (gd_ac r219_62 (gd_ac r219_63 (gd_ac r219_66 (gd_ac r219_69 (gd_ac r219_70 (gd_ac r219_71 (gd_ac r219_72 (gd_ac r219_73 (gd_ac r219_76 (gd_ac r219_79 (gd_an))))))))))))))))))))))))))))))))))))))))))))))))
theorem r219_80 : Sd gd_mt M219 80 (i_getR 8 39 83) := sd_getR ck8 (by decide) rfl (.inl q1493) dX8_goesOn_80 rfl
theorem r219_83 : Sd gd_mt M219 83 (i_psh (.int 42) 85) := sd_bipush dX8_goesOn_83 (by decide) rfl
theorem r219_85 : Sd gd_mt M219 85 (i_ild 1 86) := sd_iload_n dX8_goesOn_85 rfl rfl
theorem r219_86 : Sd gd_mt M219 86 (i_iadd 87) := sd_iadd dX8_goesOn_86 rfl
theorem r219_87 : Sd gd_mt M219 87 (i_ald 0 88) := sd_aload_n dX8_goesOn_87 rfl rfl
theorem r219_88 : Sd gd_mt M219 88 (i_getR 8 39 91) := sd_getR ck8 (by decide) rfl (.inl q1493) dX8_goesOn_88 rfl
theorem r219_91 : Sd gd_mt M219 91 (i_psh (.int 42) 93) := sd_bipush dX8_goesOn_91 (by decide) rfl
theorem r219_93 : Sd gd_mt M219 93 (i_ild 1 94) := sd_iload_n dX8_goesOn_93 rfl rfl
theorem r219_94 : Sd gd_mt M219 94 (i_iadd 95) := sd_iadd dX8_goesOn_94 rfl
theorem r219_95 : Sd gd_mt M219 95 (i_aldI 31 96) := sd_iald dX8_goesOn_95 rfl
theorem r219_96 : Sd gd_mt M219 96 (i_ald 0 97) := sd_aload_n dX8_goesOn_96 rfl rfl
theorem r219_97 : Sd gd_mt M219 97 (i_ild 1 98) := sd_iload_n dX8_goesOn_97 rfl rfl
theorem r219_98 : Sd gd_mt M219 98 (i_cV 229 1 8 101) := sd_cV2 e229 cal229 q1837 q1839 (rfl : gd_cl 8 = some _) qs68 dX8_goesOn_98 rfl
theorem r219_101 : Sd gd_mt M219 101 (i_msk [true, true] (i_iadd 102)) := sd_msk _ (sd_iadd dX8_goesOn_101 rfl)
theorem r219_102 : Sd gd_mt M219 102 (i_cS 228 1 105) := sd_cS2 e228 cal228 q1834 q1835 dX8_goesOn_102 rfl
theorem r219_105 : Sd gd_mt M219 105 (i_msk [true, true] (i_astI 106)) := sd_msk _ (sd_astI dX8_goesOn_105 rfl)
theorem r219_106 : Sd gd_mt M219 106 (i_inc 1 1 109) := sd_iinc dX8_goesOn_106 (by decide) (by decide) rfl
theorem r219_109 : Sd gd_mt M219 109 (i_goto 71) := sd_goto dX8_goesOn_109 (by decide)
theorem r219_112 : Sd gd_mt M219 112 (i_ald 0 113) := sd_aload_n dX8_goesOn_112 rfl rfl
theorem r219_113 : Sd gd_mt M219 113 (i_getR 8 39 116) := sd_getR ck8 (by decide) rfl (.inl q1493) dX8_goesOn_113 rfl
theorem r219_116 : Sd gd_mt M219 116 (i_psh (.int 49) 118) := sd_bipush dX8_goesOn_116 (by decide) rfl
theorem r219_118 : Sd gd_mt M219 118 (i_dup2 119) := sd_dup2 dX8_goesOn_118 rfl
theorem r219_119 : Sd gd_mt M219 119 (i_aldI 31 120) := sd_iald dX8_goesOn_119 rfl
theorem r219_120 : Sd gd_mt M219 120 (i_psh (.int 1) 121) := sd_iconst dX8_goesOn_120 (by decide) rfl
theorem r219_121 : Sd gd_mt M219 121 (i_iadd 122) := sd_iadd dX8_goesOn_121 rfl
theorem r219_122 : Sd gd_mt M219 122 (i_astI 123) := sd_astI dX8_goesOn_122 rfl
theorem r219_123 : Sd gd_mt M219 123 (i_ret) := sd_ret rfl dX8_goesOn_123
def cl219_1 : List (Nat × gd_I) := [(80, i_getR 8 39 83), (83, i_psh (.int 42) 85), (85, i_ild 1 86), (86, i_iadd 87), (87, i_ald 0 88), (88, i_getR 8 39 91), (91, i_psh (.int 42) 93), (93, i_ild 1 94), (94, i_iadd 95), (95, i_aldI 31 96), (96, i_ald 0 97), (97, i_ild 1 98), (98, i_cV 229 1 8 101), (101, i_msk [true, true] (i_iadd 102)), (102, i_cS 228 1 105), (105, i_msk [true, true] (i_astI 106)), (106, i_inc 1 1 109), (109, i_goto 71), (112, i_ald 0 113), (113, i_getR 8 39 116), (116, i_psh (.int 49) 118), (118, i_dup2 119), (119, i_aldI 31 120), (120, i_psh (.int 1) 121), (121, i_iadd 122), (122, i_astI 123), (123, i_ret)]
theorem cs219_1 : ∀ q ∈ cl219_1, Sd gd_mt M219 q.1 q.2 := gd_ac r219_80 (gd_ac r219_83 (gd_ac r219_85 (gd_ac r219_86 (gd_ac r219_87 (gd_ac r219_88 (gd_ac r219_91 (gd_ac r219_93 (gd_ac r219_94 (gd_ac r219_95 (gd_ac r219_96 (gd_ac r219_97 (gd_ac r219_98 (gd_ac r219_101 (gd_ac r219_102 (gd_ac r219_105 (gd_ac r219_106 (gd_ac r219_109 (gd_ac r219_112 (gd_ac r219_113 (gd_ac r219_116 (gd_ac r219_118 (gd_ac r219_119 (gd_ac r219_120 (gd_ac r219_121 (gd_ac r219_122 (gd_ac r219_123 (gd_an)))))))))))))))))))))))))))
def cd219 (pc : Nat) : gd_I := if pc < 80 then lkI cl219_0 pc else lkI cl219_1 pc
theorem cg219 : ∀ pc, Sd gd_mt M219 pc (cd219 pc) := by
  intro pc
  unfold cd219
  by_cases h0 : pc < 80
  · rw [if_pos h0]; exact sd_lk cs219_0 pc
  rw [if_neg h0]
  exact sd_lk cs219_1 pc
theorem r220_0 : Sd gd_mt M220 0 (i_psh (.int 0) 1) := sd_iconst dX8_growsBy_0 (by decide) rfl
theorem r220_1 : Sd gd_mt M220 1 (i_ist 2 2) := sd_istore_n dX8_growsBy_1 rfl (by decide) rfl
theorem r220_2 : Sd gd_mt M220 2 (i_psh (.int 0) 3) := sd_iconst dX8_growsBy_2 (by decide) rfl
theorem r220_3 : Sd gd_mt M220 3 (i_ist 3 4) := sd_istore_n dX8_growsBy_3 rfl (by decide) rfl
theorem r220_4 : Sd gd_mt M220 4 (i_msk [true, true, true, true] (i_ild 3 5)) := sd_msk _ (sd_iload_n dX8_growsBy_4 rfl rfl)
theorem r220_5 : Sd gd_mt M220 5 (i_ald 0 6) := sd_aload_n dX8_growsBy_5 rfl rfl
theorem r220_6 : Sd gd_mt M220 6 (i_getI 8 21 9) := sd_getI ck8 (by decide) rfl (.inl q1475) dX8_growsBy_6 rfl
theorem r220_9 : Sd gd_mt M220 9 (i_icge 59 12) := sd_icge dX8_growsBy_9 (by decide) rfl
theorem r220_12 : Sd gd_mt M220 12 (i_ild 2 13) := sd_iload_n dX8_growsBy_12 rfl rfl
theorem r220_13 : Sd gd_mt M220 13 (i_ald 0 14) := sd_aload_n dX8_growsBy_13 rfl rfl
theorem r220_14 : Sd gd_mt M220 14 (i_getR 8 16 17) := sd_getR ck8 (by decide) rfl (.inl q1470) dX8_growsBy_14 rfl
theorem r220_17 : Sd gd_mt M220 17 (i_ild 1 18) := sd_iload_n dX8_growsBy_17 rfl rfl
theorem r220_18 : Sd gd_mt M220 18 (i_aldI 31 19) := sd_iald dX8_growsBy_18 rfl
theorem r220_19 : Sd gd_mt M220 19 (i_ild 3 20) := sd_iload_n dX8_growsBy_19 rfl rfl
theorem r220_20 : Sd gd_mt M220 20 (i_ishr 21) := sd_ishr dX8_growsBy_20 rfl
theorem r220_21 : Sd gd_mt M220 21 (i_psh (.int 1) 22) := sd_iconst dX8_growsBy_21 (by decide) rfl
theorem r220_22 : Sd gd_mt M220 22 (i_iand 23) := sd_iand dX8_growsBy_22 rfl
theorem r220_23 : Sd gd_mt M220 23 (i_psh (.int 1) 24) := sd_iconst dX8_growsBy_23 (by decide) rfl
theorem r220_24 : Sd gd_mt M220 24 (i_icne 50 27) := sd_icne dX8_growsBy_24 (by decide) rfl
theorem r220_27 : Sd gd_mt M220 27 (i_ald 0 28) := sd_aload_n dX8_growsBy_27 rfl rfl
theorem r220_28 : Sd gd_mt M220 28 (i_getR 8 39 31) := sd_getR ck8 (by decide) rfl (.inl q1493) dX8_growsBy_28 rfl
theorem r220_31 : Sd gd_mt M220 31 (i_psh (.int 0) 32) := sd_iconst dX8_growsBy_31 (by decide) rfl
theorem r220_32 : Sd gd_mt M220 32 (i_ild 3 33) := sd_iload_n dX8_growsBy_32 rfl rfl
theorem r220_33 : Sd gd_mt M220 33 (i_iadd 34) := sd_iadd dX8_growsBy_33 rfl
theorem r220_34 : Sd gd_mt M220 34 (i_aldI 31 35) := sd_iald dX8_growsBy_34 rfl
theorem r220_35 : Sd gd_mt M220 35 (i_ald 0 36) := sd_aload_n dX8_growsBy_35 rfl rfl
theorem r220_36 : Sd gd_mt M220 36 (i_getR 8 39 39) := sd_getR ck8 (by decide) rfl (.inl q1493) dX8_growsBy_36 rfl
theorem r220_39 : Sd gd_mt M220 39 (i_psh (.int 0) 40) := sd_iconst dX8_growsBy_39 (by decide) rfl
theorem r220_40 : Sd gd_mt M220 40 (i_ild 1 41) := sd_iload_n dX8_growsBy_40 rfl rfl
theorem r220_41 : Sd gd_mt M220 41 (i_iadd 42) := sd_iadd dX8_growsBy_41 rfl
theorem r220_42 : Sd gd_mt M220 42 (i_aldI 31 43) := sd_iald dX8_growsBy_42 rfl
theorem r220_43 : Sd gd_mt M220 43 (i_icle 50 46) := sd_icle dX8_growsBy_43 (by decide) rfl
theorem r220_46 : Sd gd_mt M220 46 (i_psh (.int 1) 47) := sd_iconst dX8_growsBy_46 (by decide) rfl
theorem r220_47 : Sd gd_mt M220 47 (i_goto 51) := sd_goto dX8_growsBy_47 (by decide)
theorem r220_50 : Sd gd_mt M220 50 (i_msk [true, true, false, true] (i_psh (.int 0) 51)) := sd_msk _ (sd_iconst dX8_growsBy_50 (by decide) rfl)
theorem r220_51 : Sd gd_mt M220 51 (i_msk [true, true, false, true] (i_iadd 52)) := sd_msk _ (sd_iadd dX8_growsBy_51 rfl)
theorem r220_52 : Sd gd_mt M220 52 (i_ist 2 53) := sd_istore_n dX8_growsBy_52 rfl (by decide) rfl
theorem r220_53 : Sd gd_mt M220 53 (i_inc 3 1 56) := sd_iinc dX8_growsBy_53 (by decide) (by decide) rfl
theorem r220_56 : Sd gd_mt M220 56 (i_goto 4) := sd_goto dX8_growsBy_56 (by decide)
theorem r220_59 : Sd gd_mt M220 59 (i_ald 0 60) := sd_aload_n dX8_growsBy_59 rfl rfl
theorem r220_60 : Sd gd_mt M220 60 (i_ald 0 61) := sd_aload_n dX8_growsBy_60 rfl rfl
theorem r220_61 : Sd gd_mt M220 61 (i_getR 8 39 64) := sd_getR ck8 (by decide) rfl (.inl q1493) dX8_growsBy_61 rfl
theorem r220_64 : Sd gd_mt M220 64 (i_psh (.int 7) 66) := sd_bipush dX8_growsBy_64 (by decide) rfl
theorem r220_66 : Sd gd_mt M220 66 (i_ild 1 67) := sd_iload_n dX8_growsBy_66 rfl rfl
theorem r220_67 : Sd gd_mt M220 67 (i_iadd 68) := sd_iadd dX8_growsBy_67 rfl
theorem r220_68 : Sd gd_mt M220 68 (i_aldI 31 69) := sd_iald dX8_growsBy_68 rfl
theorem r220_69 : Sd gd_mt M220 69 (i_ald 0 70) := sd_aload_n dX8_growsBy_69 rfl rfl
theorem r220_70 : Sd gd_mt M220 70 (i_getR 8 39 73) := sd_getR ck8 (by decide) rfl (.inl q1493) dX8_growsBy_70 rfl
def cl220_0 : List (Nat × gd_I) := [(0, i_psh (.int 0) 1), (1, i_ist 2 2), (2, i_psh (.int 0) 3), (3, i_ist 3 4), (4, i_msk [true, true, true, true] (i_ild 3 5)), (5, i_ald 0 6), (6, i_getI 8 21 9), (9, i_icge 59 12), (12, i_ild 2 13), (13, i_ald 0 14), (14, i_getR 8 16 17), (17, i_ild 1 18), (18, i_aldI 31 19), (19, i_ild 3 20), (20, i_ishr 21), (21, i_psh (.int 1) 22), (22, i_iand 23), (23, i_psh (.int 1) 24), (24, i_icne 50 27), (27, i_ald 0 28), (28, i_getR 8 39 31), (31, i_psh (.int 0) 32), (32, i_ild 3 33), (33, i_iadd 34), (34, i_aldI 31 35), (35, i_ald 0 36), (36, i_getR 8 39 39), (39, i_psh (.int 0) 40), (40, i_ild 1 41), (41, i_iadd 42), (42, i_aldI 31 43), (43, i_icle 50 46), (46, i_psh (.int 1) 47), (47, i_goto 51), (50, i_msk [true, true, false, true] (i_psh (.int 0) 51)), (51, i_msk [true, true, false, true] (i_iadd 52)), (52, i_ist 2 53), (53, i_inc 3 1 56), (56, i_goto 4), (59, i_ald 0 60), (60, i_ald 0 61), (61, i_getR 8 39 64), (64, i_psh (.int 7) 66), (66, i_ild 1 67), (67, i_iadd 68), (68, i_aldI 31 69), (69, i_ald 0 70), (70, i_getR 8 39 73)]
theorem cs220_0 : ∀ q ∈ cl220_0, Sd gd_mt M220 q.1 q.2 := gd_ac r220_0 (gd_ac r220_1 (gd_ac r220_2 (gd_ac r220_3 (gd_ac r220_4 (gd_ac r220_5 (gd_ac r220_6 (gd_ac r220_9 (gd_ac r220_12 (gd_ac r220_13 (gd_ac r220_14 (gd_ac r220_17 (gd_ac r220_18 (gd_ac r220_19 (gd_ac r220_20 (gd_ac r220_21 (gd_ac r220_22 (gd_ac r220_23 (gd_ac r220_24 (gd_ac r220_27 (gd_ac r220_28 (gd_ac r220_31 (gd_ac r220_32 (gd_ac r220_33 (gd_ac r220_34 (gd_ac r220_35 (gd_ac r220_36 (gd_ac r220_39 (gd_ac r220_40 (gd_ac r220_41 (gd_ac r220_42 (gd_ac r220_43 (gd_ac r220_46 (gd_ac r220_47 (gd_ac r220_50 (gd_ac r220_51 (gd_ac r220_52 (gd_ac r220_53 (gd_ac r220_56 (gd_ac r220_59 (gd_ac r220_60 (gd_ac r220_61 (gd_ac r220_64 (gd_ac r220_66 (gd_ac r220_67 (gd_ac r220_68 (gd_ac r220_69 (gd_ac r220_70 (gd_an))))))))))))))))))))))))))))))))))))))))))))))))
theorem r220_73 : Sd gd_mt M220 73 (i_psh (.int 0) 74) := sd_iconst dX8_growsBy_73 (by decide) rfl
theorem r220_74 : Sd gd_mt M220 74 (i_ild 1 75) := sd_iload_n dX8_growsBy_74 rfl rfl
theorem r220_75 : Sd gd_mt M220 75 (i_iadd 76) := sd_iadd dX8_growsBy_75 rfl
theorem r220_76 : Sd gd_mt M220 76 (i_aldI 31 77) := sd_iald dX8_growsBy_76 rfl
theorem r220_77 : Sd gd_mt M220 77 (i_ild 2 78) := sd_iload_n dX8_growsBy_77 rfl rfl
theorem r220_78 : Sd gd_mt M220 78 (i_ald 0 79) := sd_aload_n dX8_growsBy_78 rfl rfl
theorem r220_79 : Sd gd_mt M220 79 (i_cV 221 0 8 82) := sd_cV2 e221 cal221 q1807 q1809 (rfl : gd_cl 8 = some _) qs62 dX8_growsBy_79 rfl
theorem r220_82 : Sd gd_mt M220 82 (i_msk [true, true, false, false] (i_ald 0 83)) := sd_msk _ (sd_aload_n dX8_growsBy_82 rfl rfl)
theorem r220_83 : Sd gd_mt M220 83 (i_ild 1 84) := sd_iload_n dX8_growsBy_83 rfl rfl
theorem r220_84 : Sd gd_mt M220 84 (i_cV 222 1 8 87) := sd_cV2 e222 cal222 q1811 q1813 (rfl : gd_cl 8 = some _) qs63 dX8_growsBy_84 rfl
theorem r220_87 : Sd gd_mt M220 87 (i_msk [true, true, false, false] (i_ald 0 88)) := sd_msk _ (sd_aload_n dX8_growsBy_87 rfl rfl)
theorem r220_88 : Sd gd_mt M220 88 (i_getR 8 39 91) := sd_getR ck8 (by decide) rfl (.inl q1493) dX8_growsBy_88 rfl
theorem r220_91 : Sd gd_mt M220 91 (i_psh (.int 49) 93) := sd_bipush dX8_growsBy_91 (by decide) rfl
theorem r220_93 : Sd gd_mt M220 93 (i_aldI 31 94) := sd_iald dX8_growsBy_93 rfl
theorem r220_94 : Sd gd_mt M220 94 (i_psh (.int 12) 96) := sd_bipush dX8_growsBy_94 (by decide) rfl
theorem r220_96 : Sd gd_mt M220 96 (i_irem 97) := sd_irem dX8_growsBy_96 rfl
theorem r220_97 : Sd gd_mt M220 97 (i_ald 0 98) := sd_aload_n dX8_growsBy_97 rfl rfl
theorem r220_98 : Sd gd_mt M220 98 (i_ald 0 99) := sd_aload_n dX8_growsBy_98 rfl rfl
theorem r220_99 : Sd gd_mt M220 99 (i_getI 8 20 102) := sd_getI ck8 (by decide) rfl (.inl q1474) dX8_growsBy_99 rfl
theorem r220_102 : Sd gd_mt M220 102 (i_cV 216 1 8 105) := sd_cV2 e216 cal216 q1787 q1789 (rfl : gd_cl 8 = some _) qs57 dX8_growsBy_102 rfl
theorem r220_105 : Sd gd_mt M220 105 (i_msk [false, true, false, false] (i_ild 1 106)) := sd_msk _ (sd_iload_n dX8_growsBy_105 rfl rfl)
theorem r220_106 : Sd gd_mt M220 106 (i_cV 224 8 8 109) := sd_cV2 e224 cal224 q1819 q1821 (rfl : gd_cl 8 = some _) qs65 dX8_growsBy_106 rfl
theorem r220_109 : Sd gd_mt M220 109 (i_msk [false, false, false, false] (i_iret)) := sd_msk _ (sd_iret rfl dX8_growsBy_109)
def cl220_1 : List (Nat × gd_I) := [(73, i_psh (.int 0) 74), (74, i_ild 1 75), (75, i_iadd 76), (76, i_aldI 31 77), (77, i_ild 2 78), (78, i_ald 0 79), (79, i_cV 221 0 8 82), (82, i_msk [true, true, false, false] (i_ald 0 83)), (83, i_ild 1 84), (84, i_cV 222 1 8 87), (87, i_msk [true, true, false, false] (i_ald 0 88)), (88, i_getR 8 39 91), (91, i_psh (.int 49) 93), (93, i_aldI 31 94), (94, i_psh (.int 12) 96), (96, i_irem 97), (97, i_ald 0 98), (98, i_ald 0 99), (99, i_getI 8 20 102), (102, i_cV 216 1 8 105), (105, i_msk [false, true, false, false] (i_ild 1 106)), (106, i_cV 224 8 8 109), (109, i_msk [false, false, false, false] (i_iret))]
theorem cs220_1 : ∀ q ∈ cl220_1, Sd gd_mt M220 q.1 q.2 := gd_ac r220_73 (gd_ac r220_74 (gd_ac r220_75 (gd_ac r220_76 (gd_ac r220_77 (gd_ac r220_78 (gd_ac r220_79 (gd_ac r220_82 (gd_ac r220_83 (gd_ac r220_84 (gd_ac r220_87 (gd_ac r220_88 (gd_ac r220_91 (gd_ac r220_93 (gd_ac r220_94 (gd_ac r220_96 (gd_ac r220_97 (gd_ac r220_98 (gd_ac r220_99 (gd_ac r220_102 (gd_ac r220_105 (gd_ac r220_106 (gd_ac r220_109 (gd_an)))))))))))))))))))))))
def cd220 (pc : Nat) : gd_I := if pc < 73 then lkI cl220_0 pc else lkI cl220_1 pc
theorem cg220 : ∀ pc, Sd gd_mt M220 pc (cd220 pc) := by
  intro pc
  unfold cd220
  by_cases h0 : pc < 73
  · rw [if_pos h0]; exact sd_lk cs220_0 pc
  rw [if_neg h0]
  exact sd_lk cs220_1 pc
theorem r221_0 : Sd gd_mt M221 0 (i_ald 0 1) := sd_aload_n dX8_rainNow_0 rfl rfl
theorem r221_1 : Sd gd_mt M221 1 (i_getI 8 42 4) := sd_getI ck8 (by decide) rfl (.inl q1496) dX8_rainNow_1 rfl
theorem r221_4 : Sd gd_mt M221 4 (i_psh (.int (-1)) 5) := sd_iconst dX8_rainNow_4 (by decide) rfl
theorem r221_5 : Sd gd_mt M221 5 (i_icne 26 8) := sd_icne dX8_rainNow_5 (by decide) rfl
theorem r221_8 : Sd gd_mt M221 8 (i_ald 0 9) := sd_aload_n dX8_rainNow_8 rfl rfl
theorem r221_9 : Sd gd_mt M221 9 (i_getR 8 17 12) := sd_getR ck8 (by decide) rfl (.inl q1471) dX8_rainNow_9 rfl
theorem r221_12 : Sd gd_mt M221 12 (i_ald 0 13) := sd_aload_n dX8_rainNow_12 rfl rfl
theorem r221_13 : Sd gd_mt M221 13 (i_getR 8 39 16) := sd_getR ck8 (by decide) rfl (.inl q1493) dX8_rainNow_13 rfl
theorem r221_16 : Sd gd_mt M221 16 (i_psh (.int 49) 18) := sd_bipush dX8_rainNow_16 (by decide) rfl
theorem r221_18 : Sd gd_mt M221 18 (i_aldI 31 19) := sd_iald dX8_rainNow_18 rfl
theorem r221_19 : Sd gd_mt M221 19 (i_psh (.int 12) 21) := sd_bipush dX8_rainNow_19 (by decide) rfl
theorem r221_21 : Sd gd_mt M221 21 (i_irem 22) := sd_irem dX8_rainNow_21 rfl
theorem r221_22 : Sd gd_mt M221 22 (i_aldI 31 23) := sd_iald dX8_rainNow_22 rfl
theorem r221_23 : Sd gd_mt M221 23 (i_goto 30) := sd_goto dX8_rainNow_23 (by decide)
theorem r221_26 : Sd gd_mt M221 26 (i_ald 0 27) := sd_aload_n dX8_rainNow_26 rfl rfl
theorem r221_27 : Sd gd_mt M221 27 (i_getI 8 42 30) := sd_getI ck8 (by decide) rfl (.inl q1496) dX8_rainNow_27 rfl
theorem r221_30 : Sd gd_mt M221 30 (i_msk [false] (i_iret)) := sd_msk _ (sd_iret rfl dX8_rainNow_30)
def cl221_0 : List (Nat × gd_I) := [(0, i_ald 0 1), (1, i_getI 8 42 4), (4, i_psh (.int (-1)) 5), (5, i_icne 26 8), (8, i_ald 0 9), (9, i_getR 8 17 12), (12, i_ald 0 13), (13, i_getR 8 39 16), (16, i_psh (.int 49) 18), (18, i_aldI 31 19), (19, i_psh (.int 12) 21), (21, i_irem 22), (22, i_aldI 31 23), (23, i_goto 30), (26, i_ald 0 27), (27, i_getI 8 42 30), (30, i_msk [false] (i_iret))]
theorem cs221_0 : ∀ q ∈ cl221_0, Sd gd_mt M221 q.1 q.2 := gd_ac r221_0 (gd_ac r221_1 (gd_ac r221_4 (gd_ac r221_5 (gd_ac r221_8 (gd_ac r221_9 (gd_ac r221_12 (gd_ac r221_13 (gd_ac r221_16 (gd_ac r221_18 (gd_ac r221_19 (gd_ac r221_21 (gd_ac r221_22 (gd_ac r221_23 (gd_ac r221_26 (gd_ac r221_27 (gd_ac r221_30 (gd_an)))))))))))))))))
def cd221 (pc : Nat) : gd_I := lkI cl221_0 pc
theorem cg221 : ∀ pc, Sd gd_mt M221 pc (cd221 pc) := sd_lk cs221_0
theorem r222_0 : Sd gd_mt M222 0 (i_ald 0 1) := sd_aload_n dX8_gainOf_0 rfl rfl
theorem r222_1 : Sd gd_mt M222 1 (i_getR 8 39 4) := sd_getR ck8 (by decide) rfl (.inl q1493) dX8_gainOf_1 rfl
theorem r222_4 : Sd gd_mt M222 4 (i_psh (.int 14) 6) := sd_bipush dX8_gainOf_4 (by decide) rfl
theorem r222_6 : Sd gd_mt M222 6 (i_ild 1 7) := sd_iload_n dX8_gainOf_6 rfl rfl
theorem r222_7 : Sd gd_mt M222 7 (i_iadd 8) := sd_iadd dX8_gainOf_7 rfl
theorem r222_8 : Sd gd_mt M222 8 (i_aldI 31 9) := sd_iald dX8_gainOf_8 rfl
theorem r222_9 : Sd gd_mt M222 9 (i_psh (.int (-1)) 10) := sd_iconst dX8_gainOf_9 (by decide) rfl
theorem r222_10 : Sd gd_mt M222 10 (i_icne 17 13) := sd_icne dX8_gainOf_10 (by decide) rfl
theorem r222_13 : Sd gd_mt M222 13 (i_psh (.int 0) 14) := sd_iconst dX8_gainOf_13 (by decide) rfl
theorem r222_14 : Sd gd_mt M222 14 (i_goto 31) := sd_goto dX8_gainOf_14 (by decide)
theorem r222_17 : Sd gd_mt M222 17 (i_ald 0 18) := sd_aload_n dX8_gainOf_17 rfl rfl
theorem r222_18 : Sd gd_mt M222 18 (i_getR 8 39 21) := sd_getR ck8 (by decide) rfl (.inl q1493) dX8_gainOf_18 rfl
theorem r222_21 : Sd gd_mt M222 21 (i_psh (.int 0) 22) := sd_iconst dX8_gainOf_21 (by decide) rfl
theorem r222_22 : Sd gd_mt M222 22 (i_ild 1 23) := sd_iload_n dX8_gainOf_22 rfl rfl
theorem r222_23 : Sd gd_mt M222 23 (i_iadd 24) := sd_iadd dX8_gainOf_23 rfl
theorem r222_24 : Sd gd_mt M222 24 (i_aldI 31 25) := sd_iald dX8_gainOf_24 rfl
theorem r222_25 : Sd gd_mt M222 25 (i_ald 0 26) := sd_aload_n dX8_gainOf_25 rfl rfl
theorem r222_26 : Sd gd_mt M222 26 (i_ild 1 27) := sd_iload_n dX8_gainOf_26 rfl rfl
theorem r222_27 : Sd gd_mt M222 27 (i_cV 223 1 8 30) := sd_cV2 e223 cal223 q1815 q1817 (rfl : gd_cl 8 = some _) qs64 dX8_gainOf_27 rfl
theorem r222_30 : Sd gd_mt M222 30 (i_msk [false, false] (i_isub 31)) := sd_msk _ (sd_isub dX8_gainOf_30 rfl)
theorem r222_31 : Sd gd_mt M222 31 (i_msk [false, false] (i_iret)) := sd_msk _ (sd_iret rfl dX8_gainOf_31)
def cl222_0 : List (Nat × gd_I) := [(0, i_ald 0 1), (1, i_getR 8 39 4), (4, i_psh (.int 14) 6), (6, i_ild 1 7), (7, i_iadd 8), (8, i_aldI 31 9), (9, i_psh (.int (-1)) 10), (10, i_icne 17 13), (13, i_psh (.int 0) 14), (14, i_goto 31), (17, i_ald 0 18), (18, i_getR 8 39 21), (21, i_psh (.int 0) 22), (22, i_ild 1 23), (23, i_iadd 24), (24, i_aldI 31 25), (25, i_ald 0 26), (26, i_ild 1 27), (27, i_cV 223 1 8 30), (30, i_msk [false, false] (i_isub 31)), (31, i_msk [false, false] (i_iret))]
theorem cs222_0 : ∀ q ∈ cl222_0, Sd gd_mt M222 q.1 q.2 := gd_ac r222_0 (gd_ac r222_1 (gd_ac r222_4 (gd_ac r222_6 (gd_ac r222_7 (gd_ac r222_8 (gd_ac r222_9 (gd_ac r222_10 (gd_ac r222_13 (gd_ac r222_14 (gd_ac r222_17 (gd_ac r222_18 (gd_ac r222_21 (gd_ac r222_22 (gd_ac r222_23 (gd_ac r222_24 (gd_ac r222_25 (gd_ac r222_26 (gd_ac r222_27 (gd_ac r222_30 (gd_ac r222_31 (gd_an)))))))))))))))))))))
def cd222 (pc : Nat) : gd_I := lkI cl222_0 pc
theorem cg222 : ∀ pc, Sd gd_mt M222 pc (cd222 pc) := sd_lk cs222_0
theorem r223_0 : Sd gd_mt M223 0 (i_ald 0 1) := sd_aload_n dX8_isAt_0 rfl rfl
theorem r223_1 : Sd gd_mt M223 1 (i_getR 8 39 4) := sd_getR ck8 (by decide) rfl (.inl q1493) dX8_isAt_1 rfl
theorem r223_4 : Sd gd_mt M223 4 (i_psh (.int 14) 6) := sd_bipush dX8_isAt_4 (by decide) rfl
theorem r223_6 : Sd gd_mt M223 6 (i_ild 1 7) := sd_iload_n dX8_isAt_6 rfl rfl
theorem r223_7 : Sd gd_mt M223 7 (i_iadd 8) := sd_iadd dX8_isAt_7 rfl
theorem r223_8 : Sd gd_mt M223 8 (i_aldI 31 9) := sd_iald dX8_isAt_8 rfl
theorem r223_9 : Sd gd_mt M223 9 (i_psh (.int (-1)) 10) := sd_iconst dX8_isAt_9 (by decide) rfl
theorem r223_10 : Sd gd_mt M223 10 (i_icne 17 13) := sd_icne dX8_isAt_10 (by decide) rfl
theorem r223_13 : Sd gd_mt M223 13 (i_psh (.int 0) 14) := sd_iconst dX8_isAt_13 (by decide) rfl
theorem r223_14 : Sd gd_mt M223 14 (i_goto 40) := sd_goto dX8_isAt_14 (by decide)
theorem r223_17 : Sd gd_mt M223 17 (i_ald 0 18) := sd_aload_n dX8_isAt_17 rfl rfl
theorem r223_18 : Sd gd_mt M223 18 (i_ald 0 19) := sd_aload_n dX8_isAt_18 rfl rfl
theorem r223_19 : Sd gd_mt M223 19 (i_getR 8 39 22) := sd_getR ck8 (by decide) rfl (.inl q1493) dX8_isAt_19 rfl
theorem r223_22 : Sd gd_mt M223 22 (i_psh (.int 14) 24) := sd_bipush dX8_isAt_22 (by decide) rfl
theorem r223_24 : Sd gd_mt M223 24 (i_ild 1 25) := sd_iload_n dX8_isAt_24 rfl rfl
theorem r223_25 : Sd gd_mt M223 25 (i_iadd 26) := sd_iadd dX8_isAt_25 rfl
theorem r223_26 : Sd gd_mt M223 26 (i_aldI 31 27) := sd_iald dX8_isAt_26 rfl
theorem r223_27 : Sd gd_mt M223 27 (i_cV 216 1 8 30) := sd_cV2 e216 cal216 q1787 q1789 (rfl : gd_cl 8 = some _) qs57 dX8_isAt_27 rfl
theorem r223_30 : Sd gd_mt M223 30 (i_msk [true, true] (i_ald 0 31)) := sd_msk _ (sd_aload_n dX8_isAt_30 rfl rfl)
theorem r223_31 : Sd gd_mt M223 31 (i_getR 8 39 34) := sd_getR ck8 (by decide) rfl (.inl q1493) dX8_isAt_31 rfl
theorem r223_34 : Sd gd_mt M223 34 (i_psh (.int 21) 36) := sd_bipush dX8_isAt_34 (by decide) rfl
theorem r223_36 : Sd gd_mt M223 36 (i_ild 1 37) := sd_iload_n dX8_isAt_36 rfl rfl
theorem r223_37 : Sd gd_mt M223 37 (i_iadd 38) := sd_iadd dX8_isAt_37 rfl
theorem r223_38 : Sd gd_mt M223 38 (i_aldI 31 39) := sd_iald dX8_isAt_38 rfl
theorem r223_39 : Sd gd_mt M223 39 (i_iadd 40) := sd_iadd dX8_isAt_39 rfl
theorem r223_40 : Sd gd_mt M223 40 (i_msk [false, false] (i_iret)) := sd_msk _ (sd_iret rfl dX8_isAt_40)
def cl223_0 : List (Nat × gd_I) := [(0, i_ald 0 1), (1, i_getR 8 39 4), (4, i_psh (.int 14) 6), (6, i_ild 1 7), (7, i_iadd 8), (8, i_aldI 31 9), (9, i_psh (.int (-1)) 10), (10, i_icne 17 13), (13, i_psh (.int 0) 14), (14, i_goto 40), (17, i_ald 0 18), (18, i_ald 0 19), (19, i_getR 8 39 22), (22, i_psh (.int 14) 24), (24, i_ild 1 25), (25, i_iadd 26), (26, i_aldI 31 27), (27, i_cV 216 1 8 30), (30, i_msk [true, true] (i_ald 0 31)), (31, i_getR 8 39 34), (34, i_psh (.int 21) 36), (36, i_ild 1 37), (37, i_iadd 38), (38, i_aldI 31 39), (39, i_iadd 40), (40, i_msk [false, false] (i_iret))]
theorem cs223_0 : ∀ q ∈ cl223_0, Sd gd_mt M223 q.1 q.2 := gd_ac r223_0 (gd_ac r223_1 (gd_ac r223_4 (gd_ac r223_6 (gd_ac r223_7 (gd_ac r223_8 (gd_ac r223_9 (gd_ac r223_10 (gd_ac r223_13 (gd_ac r223_14 (gd_ac r223_17 (gd_ac r223_18 (gd_ac r223_19 (gd_ac r223_22 (gd_ac r223_24 (gd_ac r223_25 (gd_ac r223_26 (gd_ac r223_27 (gd_ac r223_30 (gd_ac r223_31 (gd_ac r223_34 (gd_ac r223_36 (gd_ac r223_37 (gd_ac r223_38 (gd_ac r223_39 (gd_ac r223_40 (gd_an))))))))))))))))))))))))))
def cd223 (pc : Nat) : gd_I := lkI cl223_0 pc
theorem cg223 : ∀ pc, Sd gd_mt M223 pc (cd223 pc) := sd_lk cs223_0
theorem r224_0 : Sd gd_mt M224 0 (i_ald 0 1) := sd_aload_n dX8_growsOf_0 rfl rfl
theorem r224_1 : Sd gd_mt M224 1 (i_getR 8 29 4) := sd_getR ck8 (by decide) rfl (.inl q1483) dX8_growsOf_1 rfl
theorem r224_4 : Sd gd_mt M224 4 (i_psh (.int 0) 5) := sd_iconst dX8_growsOf_4 (by decide) rfl
theorem r224_5 : Sd gd_mt M224 5 (i_ild 1 6) := sd_iload_n dX8_growsOf_5 rfl rfl
theorem r224_6 : Sd gd_mt M224 6 (i_astI 7) := sd_astI dX8_growsOf_6 rfl
theorem r224_7 : Sd gd_mt M224 7 (i_ald 0 8) := sd_aload_n dX8_growsOf_7 rfl rfl
theorem r224_8 : Sd gd_mt M224 8 (i_getR 8 29 11) := sd_getR ck8 (by decide) rfl (.inl q1483) dX8_growsOf_8 rfl
theorem r224_11 : Sd gd_mt M224 11 (i_psh (.int 1) 12) := sd_iconst dX8_growsOf_11 (by decide) rfl
theorem r224_12 : Sd gd_mt M224 12 (i_ild 2 13) := sd_iload_n dX8_growsOf_12 rfl rfl
theorem r224_13 : Sd gd_mt M224 13 (i_astI 14) := sd_astI dX8_growsOf_13 rfl
theorem r224_14 : Sd gd_mt M224 14 (i_ald 0 15) := sd_aload_n dX8_growsOf_14 rfl rfl
theorem r224_15 : Sd gd_mt M224 15 (i_getR 8 29 18) := sd_getR ck8 (by decide) rfl (.inl q1483) dX8_growsOf_15 rfl
theorem r224_18 : Sd gd_mt M224 18 (i_psh (.int 2) 19) := sd_iconst dX8_growsOf_18 (by decide) rfl
theorem r224_19 : Sd gd_mt M224 19 (i_ild 3 20) := sd_iload_n dX8_growsOf_19 rfl rfl
theorem r224_20 : Sd gd_mt M224 20 (i_astI 21) := sd_astI dX8_growsOf_20 rfl
theorem r224_21 : Sd gd_mt M224 21 (i_ald 0 22) := sd_aload_n dX8_growsOf_21 rfl rfl
theorem r224_22 : Sd gd_mt M224 22 (i_getR 8 29 25) := sd_getR ck8 (by decide) rfl (.inl q1483) dX8_growsOf_22 rfl
theorem r224_25 : Sd gd_mt M224 25 (i_psh (.int 3) 26) := sd_iconst dX8_growsOf_25 (by decide) rfl
theorem r224_26 : Sd gd_mt M224 26 (i_ild 4 28) := sd_iload dX8_growsOf_26 rfl
theorem r224_28 : Sd gd_mt M224 28 (i_astI 29) := sd_astI dX8_growsOf_28 rfl
theorem r224_29 : Sd gd_mt M224 29 (i_ald 0 30) := sd_aload_n dX8_growsOf_29 rfl rfl
theorem r224_30 : Sd gd_mt M224 30 (i_getR 8 29 33) := sd_getR ck8 (by decide) rfl (.inl q1483) dX8_growsOf_30 rfl
theorem r224_33 : Sd gd_mt M224 33 (i_psh (.int 4) 34) := sd_iconst dX8_growsOf_33 (by decide) rfl
theorem r224_34 : Sd gd_mt M224 34 (i_ild 5 36) := sd_iload dX8_growsOf_34 rfl
theorem r224_36 : Sd gd_mt M224 36 (i_astI 37) := sd_astI dX8_growsOf_36 rfl
theorem r224_37 : Sd gd_mt M224 37 (i_ald 0 38) := sd_aload_n dX8_growsOf_37 rfl rfl
theorem r224_38 : Sd gd_mt M224 38 (i_getR 8 29 41) := sd_getR ck8 (by decide) rfl (.inl q1483) dX8_growsOf_38 rfl
theorem r224_41 : Sd gd_mt M224 41 (i_psh (.int 5) 42) := sd_iconst dX8_growsOf_41 (by decide) rfl
theorem r224_42 : Sd gd_mt M224 42 (i_ild 6 44) := sd_iload dX8_growsOf_42 rfl
theorem r224_44 : Sd gd_mt M224 44 (i_astI 45) := sd_astI dX8_growsOf_44 rfl
theorem r224_45 : Sd gd_mt M224 45 (i_ald 0 46) := sd_aload_n dX8_growsOf_45 rfl rfl
theorem r224_46 : Sd gd_mt M224 46 (i_getR 8 29 49) := sd_getR ck8 (by decide) rfl (.inl q1483) dX8_growsOf_46 rfl
theorem r224_49 : Sd gd_mt M224 49 (i_psh (.int 6) 51) := sd_bipush dX8_growsOf_49 (by decide) rfl
theorem r224_51 : Sd gd_mt M224 51 (i_ild 7 53) := sd_iload dX8_growsOf_51 rfl
theorem r224_53 : Sd gd_mt M224 53 (i_astI 54) := sd_astI dX8_growsOf_53 rfl
theorem r224_54 : Sd gd_mt M224 54 (i_ald 0 55) := sd_aload_n dX8_growsOf_54 rfl rfl
theorem r224_55 : Sd gd_mt M224 55 (i_getR 8 29 58) := sd_getR ck8 (by decide) rfl (.inl q1483) dX8_growsOf_55 rfl
theorem r224_58 : Sd gd_mt M224 58 (i_psh (.int 7) 60) := sd_bipush dX8_growsOf_58 (by decide) rfl
theorem r224_60 : Sd gd_mt M224 60 (i_ild 8 62) := sd_iload dX8_growsOf_60 rfl
theorem r224_62 : Sd gd_mt M224 62 (i_astI 63) := sd_astI dX8_growsOf_62 rfl
theorem r224_63 : Sd gd_mt M224 63 (i_ald 0 64) := sd_aload_n dX8_growsOf_63 rfl rfl
theorem r224_64 : Sd gd_mt M224 64 (i_cV 225 0 8 67) := sd_cV2 e225 cal225 q1823 q1825 (rfl : gd_cl 8 = some _) qs66 dX8_growsOf_64 rfl
theorem r224_67 : Sd gd_mt M224 67 (i_msk [false, false, false, false, false, false, false, false, false] (i_iret)) := sd_msk _ (sd_iret rfl dX8_growsOf_67)
def cl224_0 : List (Nat × gd_I) := [(0, i_ald 0 1), (1, i_getR 8 29 4), (4, i_psh (.int 0) 5), (5, i_ild 1 6), (6, i_astI 7), (7, i_ald 0 8), (8, i_getR 8 29 11), (11, i_psh (.int 1) 12), (12, i_ild 2 13), (13, i_astI 14), (14, i_ald 0 15), (15, i_getR 8 29 18), (18, i_psh (.int 2) 19), (19, i_ild 3 20), (20, i_astI 21), (21, i_ald 0 22), (22, i_getR 8 29 25), (25, i_psh (.int 3) 26), (26, i_ild 4 28), (28, i_astI 29), (29, i_ald 0 30), (30, i_getR 8 29 33), (33, i_psh (.int 4) 34), (34, i_ild 5 36), (36, i_astI 37), (37, i_ald 0 38), (38, i_getR 8 29 41), (41, i_psh (.int 5) 42), (42, i_ild 6 44), (44, i_astI 45), (45, i_ald 0 46), (46, i_getR 8 29 49), (49, i_psh (.int 6) 51), (51, i_ild 7 53), (53, i_astI 54), (54, i_ald 0 55), (55, i_getR 8 29 58), (58, i_psh (.int 7) 60), (60, i_ild 8 62), (62, i_astI 63), (63, i_ald 0 64), (64, i_cV 225 0 8 67), (67, i_msk [false, false, false, false, false, false, false, false, false] (i_iret))]
theorem cs224_0 : ∀ q ∈ cl224_0, Sd gd_mt M224 q.1 q.2 := gd_ac r224_0 (gd_ac r224_1 (gd_ac r224_4 (gd_ac r224_5 (gd_ac r224_6 (gd_ac r224_7 (gd_ac r224_8 (gd_ac r224_11 (gd_ac r224_12 (gd_ac r224_13 (gd_ac r224_14 (gd_ac r224_15 (gd_ac r224_18 (gd_ac r224_19 (gd_ac r224_20 (gd_ac r224_21 (gd_ac r224_22 (gd_ac r224_25 (gd_ac r224_26 (gd_ac r224_28 (gd_ac r224_29 (gd_ac r224_30 (gd_ac r224_33 (gd_ac r224_34 (gd_ac r224_36 (gd_ac r224_37 (gd_ac r224_38 (gd_ac r224_41 (gd_ac r224_42 (gd_ac r224_44 (gd_ac r224_45 (gd_ac r224_46 (gd_ac r224_49 (gd_ac r224_51 (gd_ac r224_53 (gd_ac r224_54 (gd_ac r224_55 (gd_ac r224_58 (gd_ac r224_60 (gd_ac r224_62 (gd_ac r224_63 (gd_ac r224_64 (gd_ac r224_67 (gd_an)))))))))))))))))))))))))))))))))))))))))))
def cd224 (pc : Nat) : gd_I := lkI cl224_0 pc
theorem cg224 : ∀ pc, Sd gd_mt M224 pc (cd224 pc) := sd_lk cs224_0
theorem r225_0 : Sd gd_mt M225 0 (i_ald 0 1) := sd_aload_n dX8_growsNow_0 rfl rfl
theorem r225_1 : Sd gd_mt M225 1 (i_getI 8 28 4) := sd_getI ck8 (by decide) rfl (.inl q1482) dX8_growsNow_1 rfl
theorem r225_4 : Sd gd_mt M225 4 (i_ifne 20 7) := sd_ifne dX8_growsNow_4 (by decide) rfl
theorem r225_7 : Sd gd_mt M225 7 (i_psh (.int 1) 8) := sd_iconst dX8_growsNow_7 (by decide) rfl
theorem r225_8 : Sd gd_mt M225 8 (i_ald 0 9) := sd_aload_n dX8_growsNow_8 rfl rfl
theorem r225_9 : Sd gd_mt M225 9 (i_getR 8 29 12) := sd_getR ck8 (by decide) rfl (.inl q1483) dX8_growsNow_9 rfl
theorem r225_12 : Sd gd_mt M225 12 (i_psh (.int 0) 13) := sd_iconst dX8_growsNow_12 (by decide) rfl
theorem r225_13 : Sd gd_mt M225 13 (i_aldI 31 14) := sd_iald dX8_growsNow_13 rfl
theorem r225_14 : Sd gd_mt M225 14 (i_psh (.int 3) 15) := sd_iconst dX8_growsNow_14 (by decide) rfl
theorem r225_15 : Sd gd_mt M225 15 (i_idiv 16) := sd_idiv dX8_growsNow_15 rfl
theorem r225_16 : Sd gd_mt M225 16 (i_iadd 17) := sd_iadd dX8_growsNow_16 rfl
theorem r225_17 : Sd gd_mt M225 17 (i_goto 24) := sd_goto dX8_growsNow_17 (by decide)
theorem r225_20 : Sd gd_mt M225 20 (i_ald 0 21) := sd_aload_n dX8_growsNow_20 rfl rfl
theorem r225_21 : Sd gd_mt M225 21 (i_cV 226 0 8 24) := sd_cV2 e226 cal226 q1827 q1829 (rfl : gd_cl 8 = some _) qs67 dX8_growsNow_21 rfl
theorem r225_24 : Sd gd_mt M225 24 (i_msk [false, false] (i_ist 1 25)) := sd_msk _ (sd_istore_n dX8_growsNow_24 rfl (by decide) rfl)
theorem r225_25 : Sd gd_mt M225 25 (i_ild 1 26) := sd_iload_n dX8_growsNow_25 rfl rfl
theorem r225_26 : Sd gd_mt M225 26 (i_ifge 33 29) := sd_ifge dX8_growsNow_26 (by decide) rfl
theorem r225_29 : Sd gd_mt M225 29 (i_psh (.int 0) 30) := sd_iconst dX8_growsNow_29 (by decide) rfl
theorem r225_30 : Sd gd_mt M225 30 (i_goto 45) := sd_goto dX8_growsNow_30 (by decide)
theorem r225_33 : Sd gd_mt M225 33 (i_ild 1 34) := sd_iload_n dX8_growsNow_33 rfl rfl
theorem r225_34 : Sd gd_mt M225 34 (i_psh (.int 9) 36) := sd_bipush dX8_growsNow_34 (by decide) rfl
theorem r225_36 : Sd gd_mt M225 36 (i_icle 44 39) := sd_icle dX8_growsNow_36 (by decide) rfl
theorem r225_39 : Sd gd_mt M225 39 (i_psh (.int 9) 41) := sd_bipush dX8_growsNow_39 (by decide) rfl
theorem r225_41 : Sd gd_mt M225 41 (i_goto 45) := sd_goto dX8_growsNow_41 (by decide)
theorem r225_44 : Sd gd_mt M225 44 (i_ild 1 45) := sd_iload_n dX8_growsNow_44 rfl rfl
theorem r225_45 : Sd gd_mt M225 45 (i_msk [false, false] (i_iret)) := sd_msk _ (sd_iret rfl dX8_growsNow_45)
def cl225_0 : List (Nat × gd_I) := [(0, i_ald 0 1), (1, i_getI 8 28 4), (4, i_ifne 20 7), (7, i_psh (.int 1) 8), (8, i_ald 0 9), (9, i_getR 8 29 12), (12, i_psh (.int 0) 13), (13, i_aldI 31 14), (14, i_psh (.int 3) 15), (15, i_idiv 16), (16, i_iadd 17), (17, i_goto 24), (20, i_ald 0 21), (21, i_cV 226 0 8 24), (24, i_msk [false, false] (i_ist 1 25)), (25, i_ild 1 26), (26, i_ifge 33 29), (29, i_psh (.int 0) 30), (30, i_goto 45), (33, i_ild 1 34), (34, i_psh (.int 9) 36), (36, i_icle 44 39), (39, i_psh (.int 9) 41), (41, i_goto 45), (44, i_ild 1 45), (45, i_msk [false, false] (i_iret))]
theorem cs225_0 : ∀ q ∈ cl225_0, Sd gd_mt M225 q.1 q.2 := gd_ac r225_0 (gd_ac r225_1 (gd_ac r225_4 (gd_ac r225_7 (gd_ac r225_8 (gd_ac r225_9 (gd_ac r225_12 (gd_ac r225_13 (gd_ac r225_14 (gd_ac r225_15 (gd_ac r225_16 (gd_ac r225_17 (gd_ac r225_20 (gd_ac r225_21 (gd_ac r225_24 (gd_ac r225_25 (gd_ac r225_26 (gd_ac r225_29 (gd_ac r225_30 (gd_ac r225_33 (gd_ac r225_34 (gd_ac r225_36 (gd_ac r225_39 (gd_ac r225_41 (gd_ac r225_44 (gd_ac r225_45 (gd_an))))))))))))))))))))))))))
def cd225 (pc : Nat) : gd_I := lkI cl225_0 pc
theorem cg225 : ∀ pc, Sd gd_mt M225 pc (cd225 pc) := sd_lk cs225_0
theorem r226_0 : Sd gd_mt M226 0 (i_psh (.int 0) 1) := sd_iconst dX8_valueNow_0 (by decide) rfl
theorem r226_1 : Sd gd_mt M226 1 (i_ist 1 2) := sd_istore_n dX8_valueNow_1 rfl (by decide) rfl
theorem r226_2 : Sd gd_mt M226 2 (i_psh (.int 0) 3) := sd_iconst dX8_valueNow_2 (by decide) rfl
theorem r226_3 : Sd gd_mt M226 3 (i_ist 2 4) := sd_istore_n dX8_valueNow_3 rfl (by decide) rfl
theorem r226_4 : Sd gd_mt M226 4 (i_msk [true, true, true, false] (i_ild 2 5)) := sd_msk _ (sd_iload_n dX8_valueNow_4 rfl rfl)
theorem r226_5 : Sd gd_mt M226 5 (i_ald 0 6) := sd_aload_n dX8_valueNow_5 rfl rfl
theorem r226_6 : Sd gd_mt M226 6 (i_getI 8 28 9) := sd_getI ck8 (by decide) rfl (.inl q1482) dX8_valueNow_6 rfl
theorem r226_9 : Sd gd_mt M226 9 (i_icge 95 12) := sd_icge dX8_valueNow_9 (by decide) rfl
theorem r226_12 : Sd gd_mt M226 12 (i_ald 0 13) := sd_aload_n dX8_valueNow_12 rfl rfl
theorem r226_13 : Sd gd_mt M226 13 (i_getR 8 24 16) := sd_getR ck8 (by decide) rfl (.inl q1478) dX8_valueNow_13 rfl
theorem r226_16 : Sd gd_mt M226 16 (i_ild 2 17) := sd_iload_n dX8_valueNow_16 rfl rfl
theorem r226_17 : Sd gd_mt M226 17 (i_aldI 31 18) := sd_iald dX8_valueNow_17 rfl
theorem r226_18 : Sd gd_mt M226 18 (i_ist 3 19) := sd_istore_n dX8_valueNow_18 rfl (by decide) rfl
theorem r226_19 : Sd gd_mt M226 19 (i_ild 3 20) := sd_iload_n dX8_valueNow_19 rfl rfl
theorem r226_20 : Sd gd_mt M226 20 (i_psh (.int 1) 21) := sd_iconst dX8_valueNow_20 (by decide) rfl
theorem r226_21 : Sd gd_mt M226 21 (i_icgt 60 24) := sd_icgt dX8_valueNow_21 (by decide) rfl
theorem r226_24 : Sd gd_mt M226 24 (i_ald 0 25) := sd_aload_n dX8_valueNow_24 rfl rfl
theorem r226_25 : Sd gd_mt M226 25 (i_getR 8 26 28) := sd_getR ck8 (by decide) rfl (.inl q1480) dX8_valueNow_25 rfl
theorem r226_28 : Sd gd_mt M226 28 (i_ild 1 29) := sd_iload_n dX8_valueNow_28 rfl rfl
theorem r226_29 : Sd gd_mt M226 29 (i_ild 3 30) := sd_iload_n dX8_valueNow_29 rfl rfl
theorem r226_30 : Sd gd_mt M226 30 (i_ifne 42 33) := sd_ifne dX8_valueNow_30 (by decide) rfl
theorem r226_33 : Sd gd_mt M226 33 (i_ald 0 34) := sd_aload_n dX8_valueNow_33 rfl rfl
theorem r226_34 : Sd gd_mt M226 34 (i_getR 8 25 37) := sd_getR ck8 (by decide) rfl (.inl q1479) dX8_valueNow_34 rfl
theorem r226_37 : Sd gd_mt M226 37 (i_ild 2 38) := sd_iload_n dX8_valueNow_37 rfl rfl
theorem r226_38 : Sd gd_mt M226 38 (i_aldI 31 39) := sd_iald dX8_valueNow_38 rfl
theorem r226_39 : Sd gd_mt M226 39 (i_goto 53) := sd_goto dX8_valueNow_39 (by decide)
theorem r226_42 : Sd gd_mt M226 42 (i_ald 0 43) := sd_aload_n dX8_valueNow_42 rfl rfl
theorem r226_43 : Sd gd_mt M226 43 (i_getR 8 29 46) := sd_getR ck8 (by decide) rfl (.inl q1483) dX8_valueNow_43 rfl
theorem r226_46 : Sd gd_mt M226 46 (i_ald 0 47) := sd_aload_n dX8_valueNow_46 rfl rfl
theorem r226_47 : Sd gd_mt M226 47 (i_getR 8 25 50) := sd_getR ck8 (by decide) rfl (.inl q1479) dX8_valueNow_47 rfl
theorem r226_50 : Sd gd_mt M226 50 (i_ild 2 51) := sd_iload_n dX8_valueNow_50 rfl rfl
theorem r226_51 : Sd gd_mt M226 51 (i_aldI 31 52) := sd_iald dX8_valueNow_51 rfl
theorem r226_52 : Sd gd_mt M226 52 (i_aldI 31 53) := sd_iald dX8_valueNow_52 rfl
theorem r226_53 : Sd gd_mt M226 53 (i_msk [true, true, true, false] (i_astI 54)) := sd_msk _ (sd_astI dX8_valueNow_53 rfl)
theorem r226_54 : Sd gd_mt M226 54 (i_inc 1 1 57) := sd_iinc dX8_valueNow_54 (by decide) (by decide) rfl
theorem r226_57 : Sd gd_mt M226 57 (i_goto 89) := sd_goto dX8_valueNow_57 (by decide)
theorem r226_60 : Sd gd_mt M226 60 (i_inc 1 (-1) 63) := sd_iinc dX8_valueNow_60 (by decide) (by decide) rfl
theorem r226_63 : Sd gd_mt M226 63 (i_ald 0 64) := sd_aload_n dX8_valueNow_63 rfl rfl
theorem r226_64 : Sd gd_mt M226 64 (i_getR 8 26 67) := sd_getR ck8 (by decide) rfl (.inl q1480) dX8_valueNow_64 rfl
theorem r226_67 : Sd gd_mt M226 67 (i_ild 1 68) := sd_iload_n dX8_valueNow_67 rfl rfl
theorem r226_68 : Sd gd_mt M226 68 (i_psh (.int 1) 69) := sd_iconst dX8_valueNow_68 (by decide) rfl
theorem r226_69 : Sd gd_mt M226 69 (i_isub 70) := sd_isub dX8_valueNow_69 rfl
theorem r226_70 : Sd gd_mt M226 70 (i_ild 3 71) := sd_iload_n dX8_valueNow_70 rfl rfl
theorem r226_71 : Sd gd_mt M226 71 (i_ald 0 72) := sd_aload_n dX8_valueNow_71 rfl rfl
theorem r226_72 : Sd gd_mt M226 72 (i_getR 8 26 75) := sd_getR ck8 (by decide) rfl (.inl q1480) dX8_valueNow_72 rfl
theorem r226_75 : Sd gd_mt M226 75 (i_ild 1 76) := sd_iload_n dX8_valueNow_75 rfl rfl
theorem r226_76 : Sd gd_mt M226 76 (i_psh (.int 1) 77) := sd_iconst dX8_valueNow_76 (by decide) rfl
theorem r226_77 : Sd gd_mt M226 77 (i_isub 78) := sd_isub dX8_valueNow_77 rfl
def cl226_0 : List (Nat × gd_I) := [(0, i_psh (.int 0) 1), (1, i_ist 1 2), (2, i_psh (.int 0) 3), (3, i_ist 2 4), (4, i_msk [true, true, true, false] (i_ild 2 5)), (5, i_ald 0 6), (6, i_getI 8 28 9), (9, i_icge 95 12), (12, i_ald 0 13), (13, i_getR 8 24 16), (16, i_ild 2 17), (17, i_aldI 31 18), (18, i_ist 3 19), (19, i_ild 3 20), (20, i_psh (.int 1) 21), (21, i_icgt 60 24), (24, i_ald 0 25), (25, i_getR 8 26 28), (28, i_ild 1 29), (29, i_ild 3 30), (30, i_ifne 42 33), (33, i_ald 0 34), (34, i_getR 8 25 37), (37, i_ild 2 38), (38, i_aldI 31 39), (39, i_goto 53), (42, i_ald 0 43), (43, i_getR 8 29 46), (46, i_ald 0 47), (47, i_getR 8 25 50), (50, i_ild 2 51), (51, i_aldI 31 52), (52, i_aldI 31 53), (53, i_msk [true, true, true, false] (i_astI 54)), (54, i_inc 1 1 57), (57, i_goto 89), (60, i_inc 1 (-1) 63), (63, i_ald 0 64), (64, i_getR 8 26 67), (67, i_ild 1 68), (68, i_psh (.int 1) 69), (69, i_isub 70), (70, i_ild 3 71), (71, i_ald 0 72), (72, i_getR 8 26 75), (75, i_ild 1 76), (76, i_psh (.int 1) 77), (77, i_isub 78)]
theorem cs226_0 : ∀ q ∈ cl226_0, Sd gd_mt M226 q.1 q.2 := gd_ac r226_0 (gd_ac r226_1 (gd_ac r226_2 (gd_ac r226_3 (gd_ac r226_4 (gd_ac r226_5 (gd_ac r226_6 (gd_ac r226_9 (gd_ac r226_12 (gd_ac r226_13 (gd_ac r226_16 (gd_ac r226_17 (gd_ac r226_18 (gd_ac r226_19 (gd_ac r226_20 (gd_ac r226_21 (gd_ac r226_24 (gd_ac r226_25 (gd_ac r226_28 (gd_ac r226_29 (gd_ac r226_30 (gd_ac r226_33 (gd_ac r226_34 (gd_ac r226_37 (gd_ac r226_38 (gd_ac r226_39 (gd_ac r226_42 (gd_ac r226_43 (gd_ac r226_46 (gd_ac r226_47 (gd_ac r226_50 (gd_ac r226_51 (gd_ac r226_52 (gd_ac r226_53 (gd_ac r226_54 (gd_ac r226_57 (gd_ac r226_60 (gd_ac r226_63 (gd_ac r226_64 (gd_ac r226_67 (gd_ac r226_68 (gd_ac r226_69 (gd_ac r226_70 (gd_ac r226_71 (gd_ac r226_72 (gd_ac r226_75 (gd_ac r226_76 (gd_ac r226_77 (gd_an))))))))))))))))))))))))))))))))))))))))))))))))
theorem r226_78 : Sd gd_mt M226 78 (i_aldI 31 79) := sd_iald dX8_valueNow_78 rfl
theorem r226_79 : Sd gd_mt M226 79 (i_ald 0 80) := sd_aload_n dX8_valueNow_79 rfl rfl
theorem r226_80 : Sd gd_mt M226 80 (i_getR 8 26 83) := sd_getR ck8 (by decide) rfl (.inl q1480) dX8_valueNow_80 rfl
theorem r226_83 : Sd gd_mt M226 83 (i_ild 1 84) := sd_iload_n dX8_valueNow_83 rfl rfl
theorem r226_84 : Sd gd_mt M226 84 (i_aldI 31 85) := sd_iald dX8_valueNow_84 rfl
theorem r226_85 : Sd gd_mt M226 85 (i_cS 227 3 88) := sd_cS2 e227 cal227 q1831 q1832 dX8_valueNow_85 rfl
theorem r226_88 : Sd gd_mt M226 88 (i_msk [true, true, true, false] (i_astI 89)) := sd_msk _ (sd_astI dX8_valueNow_88 rfl)
theorem r226_89 : Sd gd_mt M226 89 (i_msk [true, true, true, false] (i_inc 2 1 92)) := sd_msk _ (sd_iinc dX8_valueNow_89 (by decide) (by decide) rfl)
theorem r226_92 : Sd gd_mt M226 92 (i_goto 4) := sd_goto dX8_valueNow_92 (by decide)
theorem r226_95 : Sd gd_mt M226 95 (i_ald 0 96) := sd_aload_n dX8_valueNow_95 rfl rfl
theorem r226_96 : Sd gd_mt M226 96 (i_getR 8 26 99) := sd_getR ck8 (by decide) rfl (.inl q1480) dX8_valueNow_96 rfl
theorem r226_99 : Sd gd_mt M226 99 (i_psh (.int 0) 100) := sd_iconst dX8_valueNow_99 (by decide) rfl
theorem r226_100 : Sd gd_mt M226 100 (i_aldI 31 101) := sd_iald dX8_valueNow_100 rfl
theorem r226_101 : Sd gd_mt M226 101 (i_iret) := sd_iret rfl dX8_valueNow_101
def cl226_1 : List (Nat × gd_I) := [(78, i_aldI 31 79), (79, i_ald 0 80), (80, i_getR 8 26 83), (83, i_ild 1 84), (84, i_aldI 31 85), (85, i_cS 227 3 88), (88, i_msk [true, true, true, false] (i_astI 89)), (89, i_msk [true, true, true, false] (i_inc 2 1 92)), (92, i_goto 4), (95, i_ald 0 96), (96, i_getR 8 26 99), (99, i_psh (.int 0) 100), (100, i_aldI 31 101), (101, i_iret)]
theorem cs226_1 : ∀ q ∈ cl226_1, Sd gd_mt M226 q.1 q.2 := gd_ac r226_78 (gd_ac r226_79 (gd_ac r226_80 (gd_ac r226_83 (gd_ac r226_84 (gd_ac r226_85 (gd_ac r226_88 (gd_ac r226_89 (gd_ac r226_92 (gd_ac r226_95 (gd_ac r226_96 (gd_ac r226_99 (gd_ac r226_100 (gd_ac r226_101 (gd_an))))))))))))))
def cd226 (pc : Nat) : gd_I := if pc < 78 then lkI cl226_0 pc else lkI cl226_1 pc
theorem cg226 : ∀ pc, Sd gd_mt M226 pc (cd226 pc) := by
  intro pc
  unfold cd226
  by_cases h0 : pc < 78
  · rw [if_pos h0]; exact sd_lk cs226_0 pc
  rw [if_neg h0]
  exact sd_lk cs226_1 pc
theorem r227_0 : Sd gd_mt M227 0 (i_ild 0 1) := sd_iload_n dX8_both_0 rfl rfl
theorem r227_1 : Sd gd_mt M227 1 (i_psh (.int 2) 2) := sd_iconst dX8_both_1 (by decide) rfl
theorem r227_2 : Sd gd_mt M227 2 (i_icne 9 5) := sd_icne dX8_both_2 (by decide) rfl
theorem r227_5 : Sd gd_mt M227 5 (i_ild 1 6) := sd_iload_n dX8_both_5 rfl rfl
theorem r227_6 : Sd gd_mt M227 6 (i_ild 2 7) := sd_iload_n dX8_both_6 rfl rfl
theorem r227_7 : Sd gd_mt M227 7 (i_iadd 8) := sd_iadd dX8_both_7 rfl
theorem r227_8 : Sd gd_mt M227 8 (i_iret) := sd_iret rfl dX8_both_8
theorem r227_9 : Sd gd_mt M227 9 (i_ild 0 10) := sd_iload_n dX8_both_9 rfl rfl
theorem r227_10 : Sd gd_mt M227 10 (i_psh (.int 3) 11) := sd_iconst dX8_both_10 (by decide) rfl
theorem r227_11 : Sd gd_mt M227 11 (i_icne 18 14) := sd_icne dX8_both_11 (by decide) rfl
theorem r227_14 : Sd gd_mt M227 14 (i_ild 1 15) := sd_iload_n dX8_both_14 rfl rfl
theorem r227_15 : Sd gd_mt M227 15 (i_ild 2 16) := sd_iload_n dX8_both_15 rfl rfl
theorem r227_16 : Sd gd_mt M227 16 (i_isub 17) := sd_isub dX8_both_16 rfl
theorem r227_17 : Sd gd_mt M227 17 (i_iret) := sd_iret rfl dX8_both_17
theorem r227_18 : Sd gd_mt M227 18 (i_ild 0 19) := sd_iload_n dX8_both_18 rfl rfl
theorem r227_19 : Sd gd_mt M227 19 (i_psh (.int 4) 20) := sd_iconst dX8_both_19 (by decide) rfl
theorem r227_20 : Sd gd_mt M227 20 (i_icne 27 23) := sd_icne dX8_both_20 (by decide) rfl
theorem r227_23 : Sd gd_mt M227 23 (i_ild 1 24) := sd_iload_n dX8_both_23 rfl rfl
theorem r227_24 : Sd gd_mt M227 24 (i_ild 2 25) := sd_iload_n dX8_both_24 rfl rfl
theorem r227_25 : Sd gd_mt M227 25 (i_imul 26) := sd_imul dX8_both_25 rfl
theorem r227_26 : Sd gd_mt M227 26 (i_iret) := sd_iret rfl dX8_both_26
theorem r227_27 : Sd gd_mt M227 27 (i_ild 0 28) := sd_iload_n dX8_both_27 rfl rfl
theorem r227_28 : Sd gd_mt M227 28 (i_psh (.int 5) 29) := sd_iconst dX8_both_28 (by decide) rfl
theorem r227_29 : Sd gd_mt M227 29 (i_iceq 38 32) := sd_iceq dX8_both_29 (by decide) rfl
theorem r227_32 : Sd gd_mt M227 32 (i_ild 0 33) := sd_iload_n dX8_both_32 rfl rfl
theorem r227_33 : Sd gd_mt M227 33 (i_psh (.int 8) 35) := sd_bipush dX8_both_33 (by decide) rfl
theorem r227_35 : Sd gd_mt M227 35 (i_icne 61 38) := sd_icne dX8_both_35 (by decide) rfl
theorem r227_38 : Sd gd_mt M227 38 (i_msk [true, true, true] (i_ild 2 39)) := sd_msk _ (sd_iload_n dX8_both_38 rfl rfl)
theorem r227_39 : Sd gd_mt M227 39 (i_ifne 46 42) := sd_ifne dX8_both_39 (by decide) rfl
theorem r227_42 : Sd gd_mt M227 42 (i_psh (.int 0) 43) := sd_iconst dX8_both_42 (by decide) rfl
theorem r227_43 : Sd gd_mt M227 43 (i_goto 60) := sd_goto dX8_both_43 (by decide)
theorem r227_46 : Sd gd_mt M227 46 (i_ild 0 47) := sd_iload_n dX8_both_46 rfl rfl
theorem r227_47 : Sd gd_mt M227 47 (i_psh (.int 5) 48) := sd_iconst dX8_both_47 (by decide) rfl
theorem r227_48 : Sd gd_mt M227 48 (i_icne 57 51) := sd_icne dX8_both_48 (by decide) rfl
theorem r227_51 : Sd gd_mt M227 51 (i_ild 1 52) := sd_iload_n dX8_both_51 rfl rfl
theorem r227_52 : Sd gd_mt M227 52 (i_ild 2 53) := sd_iload_n dX8_both_52 rfl rfl
theorem r227_53 : Sd gd_mt M227 53 (i_idiv 54) := sd_idiv dX8_both_53 rfl
theorem r227_54 : Sd gd_mt M227 54 (i_goto 60) := sd_goto dX8_both_54 (by decide)
theorem r227_57 : Sd gd_mt M227 57 (i_ild 1 58) := sd_iload_n dX8_both_57 rfl rfl
theorem r227_58 : Sd gd_mt M227 58 (i_ild 2 59) := sd_iload_n dX8_both_58 rfl rfl
theorem r227_59 : Sd gd_mt M227 59 (i_irem 60) := sd_irem dX8_both_59 rfl
theorem r227_60 : Sd gd_mt M227 60 (i_msk [false, false, false] (i_iret)) := sd_msk _ (sd_iret rfl dX8_both_60)
theorem r227_61 : Sd gd_mt M227 61 (i_ild 1 62) := sd_iload_n dX8_both_61 rfl rfl
theorem r227_62 : Sd gd_mt M227 62 (i_ild 2 63) := sd_iload_n dX8_both_62 rfl rfl
theorem r227_63 : Sd gd_mt M227 63 (i_icge 70 66) := sd_icge dX8_both_63 (by decide) rfl
theorem r227_66 : Sd gd_mt M227 66 (i_psh (.int 1) 67) := sd_iconst dX8_both_66 (by decide) rfl
theorem r227_67 : Sd gd_mt M227 67 (i_goto 71) := sd_goto dX8_both_67 (by decide)
theorem r227_70 : Sd gd_mt M227 70 (i_psh (.int 0) 71) := sd_iconst dX8_both_70 (by decide) rfl
def cl227_0 : List (Nat × gd_I) := [(0, i_ild 0 1), (1, i_psh (.int 2) 2), (2, i_icne 9 5), (5, i_ild 1 6), (6, i_ild 2 7), (7, i_iadd 8), (8, i_iret), (9, i_ild 0 10), (10, i_psh (.int 3) 11), (11, i_icne 18 14), (14, i_ild 1 15), (15, i_ild 2 16), (16, i_isub 17), (17, i_iret), (18, i_ild 0 19), (19, i_psh (.int 4) 20), (20, i_icne 27 23), (23, i_ild 1 24), (24, i_ild 2 25), (25, i_imul 26), (26, i_iret), (27, i_ild 0 28), (28, i_psh (.int 5) 29), (29, i_iceq 38 32), (32, i_ild 0 33), (33, i_psh (.int 8) 35), (35, i_icne 61 38), (38, i_msk [true, true, true] (i_ild 2 39)), (39, i_ifne 46 42), (42, i_psh (.int 0) 43), (43, i_goto 60), (46, i_ild 0 47), (47, i_psh (.int 5) 48), (48, i_icne 57 51), (51, i_ild 1 52), (52, i_ild 2 53), (53, i_idiv 54), (54, i_goto 60), (57, i_ild 1 58), (58, i_ild 2 59), (59, i_irem 60), (60, i_msk [false, false, false] (i_iret)), (61, i_ild 1 62), (62, i_ild 2 63), (63, i_icge 70 66), (66, i_psh (.int 1) 67), (67, i_goto 71), (70, i_psh (.int 0) 71)]
theorem cs227_0 : ∀ q ∈ cl227_0, Sd gd_mt M227 q.1 q.2 := gd_ac r227_0 (gd_ac r227_1 (gd_ac r227_2 (gd_ac r227_5 (gd_ac r227_6 (gd_ac r227_7 (gd_ac r227_8 (gd_ac r227_9 (gd_ac r227_10 (gd_ac r227_11 (gd_ac r227_14 (gd_ac r227_15 (gd_ac r227_16 (gd_ac r227_17 (gd_ac r227_18 (gd_ac r227_19 (gd_ac r227_20 (gd_ac r227_23 (gd_ac r227_24 (gd_ac r227_25 (gd_ac r227_26 (gd_ac r227_27 (gd_ac r227_28 (gd_ac r227_29 (gd_ac r227_32 (gd_ac r227_33 (gd_ac r227_35 (gd_ac r227_38 (gd_ac r227_39 (gd_ac r227_42 (gd_ac r227_43 (gd_ac r227_46 (gd_ac r227_47 (gd_ac r227_48 (gd_ac r227_51 (gd_ac r227_52 (gd_ac r227_53 (gd_ac r227_54 (gd_ac r227_57 (gd_ac r227_58 (gd_ac r227_59 (gd_ac r227_60 (gd_ac r227_61 (gd_ac r227_62 (gd_ac r227_63 (gd_ac r227_66 (gd_ac r227_67 (gd_ac r227_70 (gd_an))))))))))))))))))))))))))))))))))))))))))))))))
theorem r227_71 : Sd gd_mt M227 71 (i_msk [true, true, true] (i_ild 0 72)) := sd_msk _ (sd_iload_n dX8_both_71 rfl rfl)
theorem r227_72 : Sd gd_mt M227 72 (i_psh (.int 6) 74) := sd_bipush dX8_both_72 (by decide) rfl
theorem r227_74 : Sd gd_mt M227 74 (i_icne 81 77) := sd_icne dX8_both_74 (by decide) rfl
theorem r227_77 : Sd gd_mt M227 77 (i_psh (.int 1) 78) := sd_iconst dX8_both_77 (by decide) rfl
theorem r227_78 : Sd gd_mt M227 78 (i_goto 82) := sd_goto dX8_both_78 (by decide)
theorem r227_81 : Sd gd_mt M227 81 (i_psh (.int 0) 82) := sd_iconst dX8_both_81 (by decide) rfl
theorem r227_82 : Sd gd_mt M227 82 (i_msk [false, true, true] (i_icne 89 85)) := sd_msk _ (sd_icne dX8_both_82 (by decide) rfl)
theorem r227_85 : Sd gd_mt M227 85 (i_ild 1 86) := sd_iload_n dX8_both_85 rfl rfl
theorem r227_86 : Sd gd_mt M227 86 (i_goto 90) := sd_goto dX8_both_86 (by decide)
theorem r227_89 : Sd gd_mt M227 89 (i_ild 2 90) := sd_iload_n dX8_both_89 rfl rfl
theorem r227_90 : Sd gd_mt M227 90 (i_msk [false, false, false] (i_iret)) := sd_msk _ (sd_iret rfl dX8_both_90)
def cl227_1 : List (Nat × gd_I) := [(71, i_msk [true, true, true] (i_ild 0 72)), (72, i_psh (.int 6) 74), (74, i_icne 81 77), (77, i_psh (.int 1) 78), (78, i_goto 82), (81, i_psh (.int 0) 82), (82, i_msk [false, true, true] (i_icne 89 85)), (85, i_ild 1 86), (86, i_goto 90), (89, i_ild 2 90), (90, i_msk [false, false, false] (i_iret))]
theorem cs227_1 : ∀ q ∈ cl227_1, Sd gd_mt M227 q.1 q.2 := gd_ac r227_71 (gd_ac r227_72 (gd_ac r227_74 (gd_ac r227_77 (gd_ac r227_78 (gd_ac r227_81 (gd_ac r227_82 (gd_ac r227_85 (gd_ac r227_86 (gd_ac r227_89 (gd_ac r227_90 (gd_an)))))))))))
def cd227 (pc : Nat) : gd_I := if pc < 71 then lkI cl227_0 pc else lkI cl227_1 pc
theorem cg227 : ∀ pc, Sd gd_mt M227 pc (cd227 pc) := by
  intro pc
  unfold cd227
  by_cases h0 : pc < 71
  · rw [if_pos h0]; exact sd_lk cs227_0 pc
  rw [if_neg h0]
  exact sd_lk cs227_1 pc
theorem r228_0 : Sd gd_mt M228 0 (i_ild 0 1) := sd_iload_n dX8_held_0 rfl rfl
theorem r228_1 : Sd gd_mt M228 1 (i_psh (.int 999) 4) := sd_sipush dX8_held_1 (by decide) rfl
theorem r228_4 : Sd gd_mt M228 4 (i_icle 13 7) := sd_icle dX8_held_4 (by decide) rfl
theorem r228_7 : Sd gd_mt M228 7 (i_psh (.int 999) 10) := sd_sipush dX8_held_7 (by decide) rfl
theorem r228_10 : Sd gd_mt M228 10 (i_goto 14) := sd_goto dX8_held_10 (by decide)
theorem r228_13 : Sd gd_mt M228 13 (i_ild 0 14) := sd_iload_n dX8_held_13 rfl rfl
theorem r228_14 : Sd gd_mt M228 14 (i_msk [false] (i_iret)) := sd_msk _ (sd_iret rfl dX8_held_14)
def cl228_0 : List (Nat × gd_I) := [(0, i_ild 0 1), (1, i_psh (.int 999) 4), (4, i_icle 13 7), (7, i_psh (.int 999) 10), (10, i_goto 14), (13, i_ild 0 14), (14, i_msk [false] (i_iret))]
theorem cs228_0 : ∀ q ∈ cl228_0, Sd gd_mt M228 q.1 q.2 := gd_ac r228_0 (gd_ac r228_1 (gd_ac r228_4 (gd_ac r228_7 (gd_ac r228_10 (gd_ac r228_13 (gd_ac r228_14 (gd_an)))))))
def cd228 (pc : Nat) : gd_I := lkI cl228_0 pc
theorem cg228 : ∀ pc, Sd gd_mt M228 pc (cd228 pc) := sd_lk cs228_0
theorem r229_0 : Sd gd_mt M229 0 (i_ald 0 1) := sd_aload_n dX8_swellsOf_0 rfl rfl
theorem r229_1 : Sd gd_mt M229 1 (i_getR 8 14 4) := sd_getR ck8 (by decide) rfl (.inl q1468) dX8_swellsOf_1 rfl
theorem r229_4 : Sd gd_mt M229 4 (i_psh (.int 2) 5) := sd_iconst dX8_swellsOf_4 (by decide) rfl
theorem r229_5 : Sd gd_mt M229 5 (i_ild 1 6) := sd_iload_n dX8_swellsOf_5 rfl rfl
theorem r229_6 : Sd gd_mt M229 6 (i_imul 7) := sd_imul dX8_swellsOf_6 rfl
theorem r229_7 : Sd gd_mt M229 7 (i_psh (.int 1) 8) := sd_iconst dX8_swellsOf_7 (by decide) rfl
theorem r229_8 : Sd gd_mt M229 8 (i_iadd 9) := sd_iadd dX8_swellsOf_8 rfl
theorem r229_9 : Sd gd_mt M229 9 (i_aldI 31 10) := sd_iald dX8_swellsOf_9 rfl
theorem r229_10 : Sd gd_mt M229 10 (i_ald 0 11) := sd_aload_n dX8_swellsOf_10 rfl rfl
theorem r229_11 : Sd gd_mt M229 11 (i_cV 221 0 8 14) := sd_cV2 e221 cal221 q1807 q1809 (rfl : gd_cl 8 = some _) qs62 dX8_swellsOf_11 rfl
theorem r229_14 : Sd gd_mt M229 14 (i_msk [true, false, false] (i_iadd 15)) := sd_msk _ (sd_iadd dX8_swellsOf_14 rfl)
theorem r229_15 : Sd gd_mt M229 15 (i_psh (.int 4) 16) := sd_iconst dX8_swellsOf_15 (by decide) rfl
theorem r229_16 : Sd gd_mt M229 16 (i_idiv 17) := sd_idiv dX8_swellsOf_16 rfl
theorem r229_17 : Sd gd_mt M229 17 (i_ald 0 18) := sd_aload_n dX8_swellsOf_17 rfl rfl
theorem r229_18 : Sd gd_mt M229 18 (i_getR 8 39 21) := sd_getR ck8 (by decide) rfl (.inl q1493) dX8_swellsOf_18 rfl
theorem r229_21 : Sd gd_mt M229 21 (i_psh (.int 48) 23) := sd_bipush dX8_swellsOf_21 (by decide) rfl
theorem r229_23 : Sd gd_mt M229 23 (i_aldI 31 24) := sd_iald dX8_swellsOf_23 rfl
theorem r229_24 : Sd gd_mt M229 24 (i_isub 25) := sd_isub dX8_swellsOf_24 rfl
theorem r229_25 : Sd gd_mt M229 25 (i_ist 2 26) := sd_istore_n dX8_swellsOf_25 rfl (by decide) rfl
theorem r229_26 : Sd gd_mt M229 26 (i_ild 2 27) := sd_iload_n dX8_swellsOf_26 rfl rfl
theorem r229_27 : Sd gd_mt M229 27 (i_ifge 34 30) := sd_ifge dX8_swellsOf_27 (by decide) rfl
theorem r229_30 : Sd gd_mt M229 30 (i_psh (.int 0) 31) := sd_iconst dX8_swellsOf_30 (by decide) rfl
theorem r229_31 : Sd gd_mt M229 31 (i_goto 35) := sd_goto dX8_swellsOf_31 (by decide)
theorem r229_34 : Sd gd_mt M229 34 (i_ild 2 35) := sd_iload_n dX8_swellsOf_34 rfl rfl
theorem r229_35 : Sd gd_mt M229 35 (i_msk [false, false, false] (i_iret)) := sd_msk _ (sd_iret rfl dX8_swellsOf_35)
def cl229_0 : List (Nat × gd_I) := [(0, i_ald 0 1), (1, i_getR 8 14 4), (4, i_psh (.int 2) 5), (5, i_ild 1 6), (6, i_imul 7), (7, i_psh (.int 1) 8), (8, i_iadd 9), (9, i_aldI 31 10), (10, i_ald 0 11), (11, i_cV 221 0 8 14), (14, i_msk [true, false, false] (i_iadd 15)), (15, i_psh (.int 4) 16), (16, i_idiv 17), (17, i_ald 0 18), (18, i_getR 8 39 21), (21, i_psh (.int 48) 23), (23, i_aldI 31 24), (24, i_isub 25), (25, i_ist 2 26), (26, i_ild 2 27), (27, i_ifge 34 30), (30, i_psh (.int 0) 31), (31, i_goto 35), (34, i_ild 2 35), (35, i_msk [false, false, false] (i_iret))]
theorem cs229_0 : ∀ q ∈ cl229_0, Sd gd_mt M229 q.1 q.2 := gd_ac r229_0 (gd_ac r229_1 (gd_ac r229_4 (gd_ac r229_5 (gd_ac r229_6 (gd_ac r229_7 (gd_ac r229_8 (gd_ac r229_9 (gd_ac r229_10 (gd_ac r229_11 (gd_ac r229_14 (gd_ac r229_15 (gd_ac r229_16 (gd_ac r229_17 (gd_ac r229_18 (gd_ac r229_21 (gd_ac r229_23 (gd_ac r229_24 (gd_ac r229_25 (gd_ac r229_26 (gd_ac r229_27 (gd_ac r229_30 (gd_ac r229_31 (gd_ac r229_34 (gd_ac r229_35 (gd_an)))))))))))))))))))))))))
def cd229 (pc : Nat) : gd_I := lkI cl229_0 pc
theorem cg229 : ∀ pc, Sd gd_mt M229 pc (cd229 pc) := sd_lk cs229_0
theorem r230_0 : Sd gd_mt M230 0 (i_ald 0 1) := sd_aload_n dX8_book_0 rfl rfl
theorem r230_1 : Sd gd_mt M230 1 (i_psh (.int 0) 2) := sd_iconst dX8_book_1 (by decide) rfl
theorem r230_2 : Sd gd_mt M230 2 (i_putI 8 0 5) := sd_putI ck8 (by decide) rfl (.inl q1454) (.inl rfl) dX8_book_2 rfl
theorem r230_5 : Sd gd_mt M230 5 (i_ald 0 6) := sd_aload_n dX8_book_5 rfl rfl
theorem r230_6 : Sd gd_mt M230 6 (i_ild 1 7) := sd_iload_n dX8_book_6 rfl rfl
theorem r230_7 : Sd gd_mt M230 7 (i_iflt 28 10) := sd_iflt dX8_book_7 (by decide) rfl
theorem r230_10 : Sd gd_mt M230 10 (i_ild 1 11) := sd_iload_n dX8_book_10 rfl rfl
theorem r230_11 : Sd gd_mt M230 11 (i_ald 0 12) := sd_aload_n dX8_book_11 rfl rfl
theorem r230_12 : Sd gd_mt M230 12 (i_getI 8 2 15) := sd_getI ck8 (by decide) rfl (.inl q1456) dX8_book_12 rfl
theorem r230_15 : Sd gd_mt M230 15 (i_icgt 28 18) := sd_icgt dX8_book_15 (by decide) rfl
theorem r230_18 : Sd gd_mt M230 18 (i_ild 1 19) := sd_iload_n dX8_book_18 rfl rfl
theorem r230_19 : Sd gd_mt M230 19 (i_psh (.int 60) 21) := sd_bipush dX8_book_19 (by decide) rfl
theorem r230_21 : Sd gd_mt M230 21 (i_icgt 28 24) := sd_icgt dX8_book_21 (by decide) rfl
theorem r230_24 : Sd gd_mt M230 24 (i_psh (.int 1) 25) := sd_iconst dX8_book_24 (by decide) rfl
theorem r230_25 : Sd gd_mt M230 25 (i_goto 29) := sd_goto dX8_book_25 (by decide)
theorem r230_28 : Sd gd_mt M230 28 (i_msk [true, true, false, false, false, false] (i_psh (.int 0) 29)) := sd_msk _ (sd_iconst dX8_book_28 (by decide) rfl)
theorem r230_29 : Sd gd_mt M230 29 (i_msk [true, true, false, false, false, false] (i_psh (.int 1) 30)) := sd_msk _ (sd_iconst dX8_book_29 (by decide) rfl)
theorem r230_30 : Sd gd_mt M230 30 (i_psh (.int 1) 31) := sd_iconst dX8_book_30 (by decide) rfl
theorem r230_31 : Sd gd_mt M230 31 (i_cV 183 3 8 34) := sd_cV2 e183 cal183 q1639 q1641 (rfl : gd_cl 8 = some _) qs30 dX8_book_31 rfl
theorem r230_34 : Sd gd_mt M230 34 (i_msk [true, true, false, false, false, false] (i_ifne 39 37)) := sd_msk _ (sd_ifne dX8_book_34 (by decide) rfl)
theorem r230_37 : Sd gd_mt M230 37 (i_psh (.int 0) 38) := sd_iconst dX8_book_37 (by decide) rfl
theorem r230_38 : Sd gd_mt M230 38 (i_iret) := sd_iret rfl dX8_book_38
theorem r230_39 : Sd gd_mt M230 39 (i_ald 0 40) := sd_aload_n dX8_book_39 rfl rfl
theorem r230_40 : Sd gd_mt M230 40 (i_ild 1 41) := sd_iload_n dX8_book_40 rfl rfl
theorem r230_41 : Sd gd_mt M230 41 (i_cV 184 1 8 44) := sd_cV2 e184 cal184 q1643 q1645 (rfl : gd_cl 8 = some _) qs31 dX8_book_41 rfl
theorem r230_44 : Sd gd_mt M230 44 (i_msk [true, false, false, false, false, false] (i_psh (.int 0) 45)) := sd_msk _ (sd_iconst dX8_book_44 (by decide) rfl)
theorem r230_45 : Sd gd_mt M230 45 (i_ist 2 46) := sd_istore_n dX8_book_45 rfl (by decide) rfl
theorem r230_46 : Sd gd_mt M230 46 (i_msk [true, false, true, false, false, false] (i_ild 2 47)) := sd_msk _ (sd_iload_n dX8_book_46 rfl rfl)
theorem r230_47 : Sd gd_mt M230 47 (i_psh (.int 12) 49) := sd_bipush dX8_book_47 (by decide) rfl
theorem r230_49 : Sd gd_mt M230 49 (i_icgt 65 52) := sd_icgt dX8_book_49 (by decide) rfl
theorem r230_52 : Sd gd_mt M230 52 (i_ald 0 53) := sd_aload_n dX8_book_52 rfl rfl
theorem r230_53 : Sd gd_mt M230 53 (i_getR 8 43 56) := sd_getR ck8 (by decide) rfl (.inl q1497) dX8_book_53 rfl
theorem r230_56 : Sd gd_mt M230 56 (i_ild 2 57) := sd_iload_n dX8_book_56 rfl rfl
theorem r230_57 : Sd gd_mt M230 57 (i_psh (.int (-1)) 58) := sd_iconst dX8_book_57 (by decide) rfl
theorem r230_58 : Sd gd_mt M230 58 (i_astI 59) := sd_astI dX8_book_58 rfl
theorem r230_59 : Sd gd_mt M230 59 (i_inc 2 1 62) := sd_iinc dX8_book_59 (by decide) (by decide) rfl
theorem r230_62 : Sd gd_mt M230 62 (i_goto 46) := sd_goto dX8_book_62 (by decide)
theorem r230_65 : Sd gd_mt M230 65 (i_psh (.int 0) 66) := sd_iconst dX8_book_65 (by decide) rfl
theorem r230_66 : Sd gd_mt M230 66 (i_ist 2 67) := sd_istore_n dX8_book_66 rfl (by decide) rfl
theorem r230_67 : Sd gd_mt M230 67 (i_msk [true, false, true, false, false, false] (i_ald 0 68)) := sd_msk _ (sd_aload_n dX8_book_67 rfl rfl)
theorem r230_68 : Sd gd_mt M230 68 (i_cV 185 0 8 71) := sd_cV2 e185 cal185 q1647 q1649 (rfl : gd_cl 8 = some _) qs32 dX8_book_68 rfl
theorem r230_71 : Sd gd_mt M230 71 (i_msk [true, false, true, false, false, false] (i_ifeq 184 74)) := sd_msk _ (sd_ifeq dX8_book_71 (by decide) rfl)
theorem r230_74 : Sd gd_mt M230 74 (i_ald 0 75) := sd_aload_n dX8_book_74 rfl rfl
theorem r230_75 : Sd gd_mt M230 75 (i_cV 186 0 8 78) := sd_cV2 e186 cal186 q1651 q1653 (rfl : gd_cl 8 = some _) qs33 dX8_book_75 rfl
theorem r230_78 : Sd gd_mt M230 78 (i_msk [true, false, true, false, false, false] (i_ifeq 184 81)) := sd_msk _ (sd_ifeq dX8_book_78 (by decide) rfl)
theorem r230_81 : Sd gd_mt M230 81 (i_ald 0 82) := sd_aload_n dX8_book_81 rfl rfl
theorem r230_82 : Sd gd_mt M230 82 (i_cV 187 0 8 85) := sd_cV2 e187 cal187 q1655 q1657 (rfl : gd_cl 8 = some _) qs34 dX8_book_82 rfl
theorem r230_85 : Sd gd_mt M230 85 (i_msk [true, false, true, false, false, false] (i_pop 86)) := sd_msk _ (sd_pop dX8_book_85 rfl)
def cl230_0 : List (Nat × gd_I) := [(0, i_ald 0 1), (1, i_psh (.int 0) 2), (2, i_putI 8 0 5), (5, i_ald 0 6), (6, i_ild 1 7), (7, i_iflt 28 10), (10, i_ild 1 11), (11, i_ald 0 12), (12, i_getI 8 2 15), (15, i_icgt 28 18), (18, i_ild 1 19), (19, i_psh (.int 60) 21), (21, i_icgt 28 24), (24, i_psh (.int 1) 25), (25, i_goto 29), (28, i_msk [true, true, false, false, false, false] (i_psh (.int 0) 29)), (29, i_msk [true, true, false, false, false, false] (i_psh (.int 1) 30)), (30, i_psh (.int 1) 31), (31, i_cV 183 3 8 34), (34, i_msk [true, true, false, false, false, false] (i_ifne 39 37)), (37, i_psh (.int 0) 38), (38, i_iret), (39, i_ald 0 40), (40, i_ild 1 41), (41, i_cV 184 1 8 44), (44, i_msk [true, false, false, false, false, false] (i_psh (.int 0) 45)), (45, i_ist 2 46), (46, i_msk [true, false, true, false, false, false] (i_ild 2 47)), (47, i_psh (.int 12) 49), (49, i_icgt 65 52), (52, i_ald 0 53), (53, i_getR 8 43 56), (56, i_ild 2 57), (57, i_psh (.int (-1)) 58), (58, i_astI 59), (59, i_inc 2 1 62), (62, i_goto 46), (65, i_psh (.int 0) 66), (66, i_ist 2 67), (67, i_msk [true, false, true, false, false, false] (i_ald 0 68)), (68, i_cV 185 0 8 71), (71, i_msk [true, false, true, false, false, false] (i_ifeq 184 74)), (74, i_ald 0 75), (75, i_cV 186 0 8 78), (78, i_msk [true, false, true, false, false, false] (i_ifeq 184 81)), (81, i_ald 0 82), (82, i_cV 187 0 8 85), (85, i_msk [true, false, true, false, false, false] (i_pop 86))]
theorem cs230_0 : ∀ q ∈ cl230_0, Sd gd_mt M230 q.1 q.2 := gd_ac r230_0 (gd_ac r230_1 (gd_ac r230_2 (gd_ac r230_5 (gd_ac r230_6 (gd_ac r230_7 (gd_ac r230_10 (gd_ac r230_11 (gd_ac r230_12 (gd_ac r230_15 (gd_ac r230_18 (gd_ac r230_19 (gd_ac r230_21 (gd_ac r230_24 (gd_ac r230_25 (gd_ac r230_28 (gd_ac r230_29 (gd_ac r230_30 (gd_ac r230_31 (gd_ac r230_34 (gd_ac r230_37 (gd_ac r230_38 (gd_ac r230_39 (gd_ac r230_40 (gd_ac r230_41 (gd_ac r230_44 (gd_ac r230_45 (gd_ac r230_46 (gd_ac r230_47 (gd_ac r230_49 (gd_ac r230_52 (gd_ac r230_53 (gd_ac r230_56 (gd_ac r230_57 (gd_ac r230_58 (gd_ac r230_59 (gd_ac r230_62 (gd_ac r230_65 (gd_ac r230_66 (gd_ac r230_67 (gd_ac r230_68 (gd_ac r230_71 (gd_ac r230_74 (gd_ac r230_75 (gd_ac r230_78 (gd_ac r230_81 (gd_ac r230_82 (gd_ac r230_85 (gd_an))))))))))))))))))))))))))))))))))))))))))))))))
theorem r230_86 : Sd gd_mt M230 86 (i_ald 0 87) := sd_aload_n dX8_book_86 rfl rfl
theorem r230_87 : Sd gd_mt M230 87 (i_getI 8 4 90) := sd_getI ck8 (by decide) rfl (.inl q1458) dX8_book_87 rfl
theorem r230_90 : Sd gd_mt M230 90 (i_ist 3 91) := sd_istore_n dX8_book_90 rfl (by decide) rfl
theorem r230_91 : Sd gd_mt M230 91 (i_ald 0 92) := sd_aload_n dX8_book_91 rfl rfl
theorem r230_92 : Sd gd_mt M230 92 (i_psh (.int 1) 93) := sd_iconst dX8_book_92 (by decide) rfl
theorem r230_93 : Sd gd_mt M230 93 (i_psh (.int 12) 95) := sd_bipush dX8_book_93 (by decide) rfl
theorem r230_95 : Sd gd_mt M230 95 (i_cV 195 2 8 98) := sd_cV2 e195 cal195 q1690 q1692 (rfl : gd_cl 8 = some _) qs39 dX8_book_95 rfl
theorem r230_98 : Sd gd_mt M230 98 (i_msk [true, false, true, true, false, false] (i_ist 4 100)) := sd_msk _ (sd_istore dX8_book_98 (by decide) rfl)
theorem r230_100 : Sd gd_mt M230 100 (i_ald 0 101) := sd_aload_n dX8_book_100 rfl rfl
theorem r230_101 : Sd gd_mt M230 101 (i_cV 185 0 8 104) := sd_cV2 e185 cal185 q1647 q1649 (rfl : gd_cl 8 = some _) qs32 dX8_book_101 rfl
theorem r230_104 : Sd gd_mt M230 104 (i_msk [true, false, true, true, true, false] (i_ifeq 124 107)) := sd_msk _ (sd_ifeq dX8_book_104 (by decide) rfl)
theorem r230_107 : Sd gd_mt M230 107 (i_ald 0 108) := sd_aload_n dX8_book_107 rfl rfl
theorem r230_108 : Sd gd_mt M230 108 (i_getR 8 43 111) := sd_getR ck8 (by decide) rfl (.inl q1497) dX8_book_108 rfl
theorem r230_111 : Sd gd_mt M230 111 (i_ild 4 113) := sd_iload dX8_book_111 rfl
theorem r230_113 : Sd gd_mt M230 113 (i_aldI 31 114) := sd_iald dX8_book_113 rfl
theorem r230_114 : Sd gd_mt M230 114 (i_psh (.int (-1)) 115) := sd_iconst dX8_book_114 (by decide) rfl
theorem r230_115 : Sd gd_mt M230 115 (i_iceq 124 118) := sd_iceq dX8_book_115 (by decide) rfl
theorem r230_118 : Sd gd_mt M230 118 (i_ald 0 119) := sd_aload_n dX8_book_118 rfl rfl
theorem r230_119 : Sd gd_mt M230 119 (i_psh (.int 2) 120) := sd_iconst dX8_book_119 (by decide) rfl
theorem r230_120 : Sd gd_mt M230 120 (i_ild 3 121) := sd_iload_n dX8_book_120 rfl rfl
theorem r230_121 : Sd gd_mt M230 121 (i_cV 192 2 8 124) := sd_cV2 e192 cal192 q1678 q1680 (rfl : gd_cl 8 = some _) qs36 dX8_book_121 rfl
theorem r230_124 : Sd gd_mt M230 124 (i_msk [true, false, true, true, true, false] (i_ald 0 125)) := sd_msk _ (sd_aload_n dX8_book_124 rfl rfl)
theorem r230_125 : Sd gd_mt M230 125 (i_cV 185 0 8 128) := sd_cV2 e185 cal185 q1647 q1649 (rfl : gd_cl 8 = some _) qs32 dX8_book_125 rfl
theorem r230_128 : Sd gd_mt M230 128 (i_msk [true, false, true, true, true, false] (i_ifeq 143 131)) := sd_msk _ (sd_ifeq dX8_book_128 (by decide) rfl)
theorem r230_131 : Sd gd_mt M230 131 (i_ild 2 132) := sd_iload_n dX8_book_131 rfl rfl
theorem r230_132 : Sd gd_mt M230 132 (i_psh (.int 6) 134) := sd_bipush dX8_book_132 (by decide) rfl
theorem r230_134 : Sd gd_mt M230 134 (i_icne 143 137) := sd_icne dX8_book_134 (by decide) rfl
theorem r230_137 : Sd gd_mt M230 137 (i_ald 0 138) := sd_aload_n dX8_book_137 rfl rfl
theorem r230_138 : Sd gd_mt M230 138 (i_psh (.int 3) 139) := sd_iconst dX8_book_138 (by decide) rfl
theorem r230_139 : Sd gd_mt M230 139 (i_ild 3 140) := sd_iload_n dX8_book_139 rfl rfl
theorem r230_140 : Sd gd_mt M230 140 (i_cV 192 2 8 143) := sd_cV2 e192 cal192 q1678 q1680 (rfl : gd_cl 8 = some _) qs36 dX8_book_140 rfl
theorem r230_143 : Sd gd_mt M230 143 (i_msk [true, false, true, false, true, false] (i_ald 0 144)) := sd_msk _ (sd_aload_n dX8_book_143 rfl rfl)
theorem r230_144 : Sd gd_mt M230 144 (i_psh (.int 0) 145) := sd_iconst dX8_book_144 (by decide) rfl
theorem r230_145 : Sd gd_mt M230 145 (i_psh (.int 999) 148) := sd_sipush dX8_book_145 (by decide) rfl
theorem r230_148 : Sd gd_mt M230 148 (i_cV 195 2 8 151) := sd_cV2 e195 cal195 q1690 q1692 (rfl : gd_cl 8 = some _) qs39 dX8_book_148 rfl
theorem r230_151 : Sd gd_mt M230 151 (i_msk [true, false, true, false, true, false] (i_ist 5 153)) := sd_msk _ (sd_istore dX8_book_151 (by decide) rfl)
theorem r230_153 : Sd gd_mt M230 153 (i_ald 0 154) := sd_aload_n dX8_book_153 rfl rfl
theorem r230_154 : Sd gd_mt M230 154 (i_psh (.int 59) 156) := sd_bipush dX8_book_154 (by decide) rfl
theorem r230_156 : Sd gd_mt M230 156 (i_cV 198 1 8 159) := sd_cV2 e198 cal198 q1701 q1703 (rfl : gd_cl 8 = some _) qs41 dX8_book_156 rfl
theorem r230_159 : Sd gd_mt M230 159 (i_msk [true, false, true, false, true, true] (i_ald 0 160)) := sd_msk _ (sd_aload_n dX8_book_159 rfl rfl)
theorem r230_160 : Sd gd_mt M230 160 (i_cV 185 0 8 163) := sd_cV2 e185 cal185 q1647 q1649 (rfl : gd_cl 8 = some _) qs32 dX8_book_160 rfl
theorem r230_163 : Sd gd_mt M230 163 (i_msk [true, false, true, false, true, true] (i_ifne 169 166)) := sd_msk _ (sd_ifne dX8_book_163 (by decide) rfl)
theorem r230_166 : Sd gd_mt M230 166 (i_goto 184) := sd_goto dX8_book_166 (by decide)
theorem r230_169 : Sd gd_mt M230 169 (i_ald 0 170) := sd_aload_n dX8_book_169 rfl rfl
theorem r230_170 : Sd gd_mt M230 170 (i_getR 8 43 173) := sd_getR ck8 (by decide) rfl (.inl q1497) dX8_book_170 rfl
theorem r230_173 : Sd gd_mt M230 173 (i_ild 4 175) := sd_iload dX8_book_173 rfl
theorem r230_175 : Sd gd_mt M230 175 (i_ild 5 177) := sd_iload dX8_book_175 rfl
theorem r230_177 : Sd gd_mt M230 177 (i_astI 178) := sd_astI dX8_book_177 rfl
def cl230_1 : List (Nat × gd_I) := [(86, i_ald 0 87), (87, i_getI 8 4 90), (90, i_ist 3 91), (91, i_ald 0 92), (92, i_psh (.int 1) 93), (93, i_psh (.int 12) 95), (95, i_cV 195 2 8 98), (98, i_msk [true, false, true, true, false, false] (i_ist 4 100)), (100, i_ald 0 101), (101, i_cV 185 0 8 104), (104, i_msk [true, false, true, true, true, false] (i_ifeq 124 107)), (107, i_ald 0 108), (108, i_getR 8 43 111), (111, i_ild 4 113), (113, i_aldI 31 114), (114, i_psh (.int (-1)) 115), (115, i_iceq 124 118), (118, i_ald 0 119), (119, i_psh (.int 2) 120), (120, i_ild 3 121), (121, i_cV 192 2 8 124), (124, i_msk [true, false, true, true, true, false] (i_ald 0 125)), (125, i_cV 185 0 8 128), (128, i_msk [true, false, true, true, true, false] (i_ifeq 143 131)), (131, i_ild 2 132), (132, i_psh (.int 6) 134), (134, i_icne 143 137), (137, i_ald 0 138), (138, i_psh (.int 3) 139), (139, i_ild 3 140), (140, i_cV 192 2 8 143), (143, i_msk [true, false, true, false, true, false] (i_ald 0 144)), (144, i_psh (.int 0) 145), (145, i_psh (.int 999) 148), (148, i_cV 195 2 8 151), (151, i_msk [true, false, true, false, true, false] (i_ist 5 153)), (153, i_ald 0 154), (154, i_psh (.int 59) 156), (156, i_cV 198 1 8 159), (159, i_msk [true, false, true, false, true, true] (i_ald 0 160)), (160, i_cV 185 0 8 163), (163, i_msk [true, false, true, false, true, true] (i_ifne 169 166)), (166, i_goto 184), (169, i_ald 0 170), (170, i_getR 8 43 173), (173, i_ild 4 175), (175, i_ild 5 177), (177, i_astI 178)]
theorem cs230_1 : ∀ q ∈ cl230_1, Sd gd_mt M230 q.1 q.2 := gd_ac r230_86 (gd_ac r230_87 (gd_ac r230_90 (gd_ac r230_91 (gd_ac r230_92 (gd_ac r230_93 (gd_ac r230_95 (gd_ac r230_98 (gd_ac r230_100 (gd_ac r230_101 (gd_ac r230_104 (gd_ac r230_107 (gd_ac r230_108 (gd_ac r230_111 (gd_ac r230_113 (gd_ac r230_114 (gd_ac r230_115 (gd_ac r230_118 (gd_ac r230_119 (gd_ac r230_120 (gd_ac r230_121 (gd_ac r230_124 (gd_ac r230_125 (gd_ac r230_128 (gd_ac r230_131 (gd_ac r230_132 (gd_ac r230_134 (gd_ac r230_137 (gd_ac r230_138 (gd_ac r230_139 (gd_ac r230_140 (gd_ac r230_143 (gd_ac r230_144 (gd_ac r230_145 (gd_ac r230_148 (gd_ac r230_151 (gd_ac r230_153 (gd_ac r230_154 (gd_ac r230_156 (gd_ac r230_159 (gd_ac r230_160 (gd_ac r230_163 (gd_ac r230_166 (gd_ac r230_169 (gd_ac r230_170 (gd_ac r230_173 (gd_ac r230_175 (gd_ac r230_177 (gd_an))))))))))))))))))))))))))))))))))))))))))))))))
theorem r230_178 : Sd gd_mt M230 178 (i_inc 2 1 181) := sd_iinc dX8_book_178 (by decide) (by decide) rfl
theorem r230_181 : Sd gd_mt M230 181 (i_goto 67) := sd_goto dX8_book_181 (by decide)
theorem r230_184 : Sd gd_mt M230 184 (i_msk [true, false, true, false, false, false] (i_ald 0 185)) := sd_msk _ (sd_aload_n dX8_book_184 rfl rfl)
theorem r230_185 : Sd gd_mt M230 185 (i_ild 2 186) := sd_iload_n dX8_book_185 rfl rfl
theorem r230_186 : Sd gd_mt M230 186 (i_cV 199 1 8 189) := sd_cV2 e199 cal199 q1705 q1707 (rfl : gd_cl 8 = some _) qs42 dX8_book_186 rfl
theorem r230_189 : Sd gd_mt M230 189 (i_msk [true, false, true, false, false, false] (i_ist 3 190)) := sd_msk _ (sd_istore_n dX8_book_189 rfl (by decide) rfl)
theorem r230_190 : Sd gd_mt M230 190 (i_ald 0 191) := sd_aload_n dX8_book_190 rfl rfl
theorem r230_191 : Sd gd_mt M230 191 (i_getI 8 5 194) := sd_getI ck8 (by decide) rfl (.inl q1459) dX8_book_191 rfl
theorem r230_194 : Sd gd_mt M230 194 (i_psh (.int (-1)) 195) := sd_iconst dX8_book_194 (by decide) rfl
theorem r230_195 : Sd gd_mt M230 195 (i_iceq 200 198) := sd_iceq dX8_book_195 (by decide) rfl
theorem r230_198 : Sd gd_mt M230 198 (i_ild 3 199) := sd_iload_n dX8_book_198 rfl rfl
theorem r230_199 : Sd gd_mt M230 199 (i_iret) := sd_iret rfl dX8_book_199
theorem r230_200 : Sd gd_mt M230 200 (i_ald 0 201) := sd_aload_n dX8_book_200 rfl rfl
theorem r230_201 : Sd gd_mt M230 201 (i_ild 2 202) := sd_iload_n dX8_book_201 rfl rfl
theorem r230_202 : Sd gd_mt M230 202 (i_putI 8 45 205) := sd_putI ck8 (by decide) rfl (.inl q1499) (.inl rfl) dX8_book_202 rfl
theorem r230_205 : Sd gd_mt M230 205 (i_ald 0 206) := sd_aload_n dX8_book_205 rfl rfl
theorem r230_206 : Sd gd_mt M230 206 (i_ald 0 207) := sd_aload_n dX8_book_206 rfl rfl
theorem r230_207 : Sd gd_mt M230 207 (i_getR 8 43 210) := sd_getR ck8 (by decide) rfl (.inl q1497) dX8_book_207 rfl
theorem r230_210 : Sd gd_mt M230 210 (i_ald 0 211) := sd_aload_n dX8_book_210 rfl rfl
theorem r230_211 : Sd gd_mt M230 211 (i_getR 8 44 214) := sd_getR ck8 (by decide) rfl (.inl q1498) dX8_book_211 rfl
theorem r230_214 : Sd gd_mt M230 214 (i_psh (.int 13) 216) := sd_bipush dX8_book_214 (by decide) rfl
theorem r230_216 : Sd gd_mt M230 216 (i_cV 179 3 8 219) := sd_cV2 e179 cal179 q1450 q1452 (rfl : gd_cl 8 = some _) qs29 dX8_book_216 rfl
theorem r230_219 : Sd gd_mt M230 219 (i_msk [false, false, false, true, false, false] (i_ild 3 220)) := sd_msk _ (sd_iload_n dX8_book_219 rfl rfl)
theorem r230_220 : Sd gd_mt M230 220 (i_iret) := sd_iret rfl dX8_book_220
def cl230_2 : List (Nat × gd_I) := [(178, i_inc 2 1 181), (181, i_goto 67), (184, i_msk [true, false, true, false, false, false] (i_ald 0 185)), (185, i_ild 2 186), (186, i_cV 199 1 8 189), (189, i_msk [true, false, true, false, false, false] (i_ist 3 190)), (190, i_ald 0 191), (191, i_getI 8 5 194), (194, i_psh (.int (-1)) 195), (195, i_iceq 200 198), (198, i_ild 3 199), (199, i_iret), (200, i_ald 0 201), (201, i_ild 2 202), (202, i_putI 8 45 205), (205, i_ald 0 206), (206, i_ald 0 207), (207, i_getR 8 43 210), (210, i_ald 0 211), (211, i_getR 8 44 214), (214, i_psh (.int 13) 216), (216, i_cV 179 3 8 219), (219, i_msk [false, false, false, true, false, false] (i_ild 3 220)), (220, i_iret)]
theorem cs230_2 : ∀ q ∈ cl230_2, Sd gd_mt M230 q.1 q.2 := gd_ac r230_178 (gd_ac r230_181 (gd_ac r230_184 (gd_ac r230_185 (gd_ac r230_186 (gd_ac r230_189 (gd_ac r230_190 (gd_ac r230_191 (gd_ac r230_194 (gd_ac r230_195 (gd_ac r230_198 (gd_ac r230_199 (gd_ac r230_200 (gd_ac r230_201 (gd_ac r230_202 (gd_ac r230_205 (gd_ac r230_206 (gd_ac r230_207 (gd_ac r230_210 (gd_ac r230_211 (gd_ac r230_214 (gd_ac r230_216 (gd_ac r230_219 (gd_ac r230_220 (gd_an))))))))))))))))))))))))
def cd230 (pc : Nat) : gd_I := if pc < 86 then lkI cl230_0 pc else if pc < 178 then lkI cl230_1 pc else lkI cl230_2 pc
theorem cg230 : ∀ pc, Sd gd_mt M230 pc (cd230 pc) := by
  intro pc
  unfold cd230
  by_cases h0 : pc < 86
  · rw [if_pos h0]; exact sd_lk cs230_0 pc
  rw [if_neg h0]
  by_cases h1 : pc < 178
  · rw [if_pos h1]; exact sd_lk cs230_1 pc
  rw [if_neg h1]
  exact sd_lk cs230_2 pc
theorem r231_0 : Sd gd_mt M231 0 (i_ald 0 1) := sd_aload_n dX8_undo_0 rfl rfl
theorem r231_1 : Sd gd_mt M231 1 (i_psh (.int 0) 2) := sd_iconst dX8_undo_1 (by decide) rfl
theorem r231_2 : Sd gd_mt M231 2 (i_putI 8 0 5) := sd_putI ck8 (by decide) rfl (.inl q1454) (.inl rfl) dX8_undo_2 rfl
theorem r231_5 : Sd gd_mt M231 5 (i_ald 0 6) := sd_aload_n dX8_undo_5 rfl rfl
theorem r231_6 : Sd gd_mt M231 6 (i_getI 8 33 9) := sd_getI ck8 (by decide) rfl (.inl q1487) dX8_undo_6 rfl
theorem r231_9 : Sd gd_mt M231 9 (i_ifne 14 12) := sd_ifne dX8_undo_9 (by decide) rfl
theorem r231_12 : Sd gd_mt M231 12 (i_psh (.int (-1)) 13) := sd_iconst dX8_undo_12 (by decide) rfl
theorem r231_13 : Sd gd_mt M231 13 (i_iret) := sd_iret rfl dX8_undo_13
theorem r231_14 : Sd gd_mt M231 14 (i_ald 0 15) := sd_aload_n dX8_undo_14 rfl rfl
theorem r231_15 : Sd gd_mt M231 15 (i_dup 16) := sd_dup dX8_undo_15 rfl
theorem r231_16 : Sd gd_mt M231 16 (i_getI 8 33 19) := sd_getI ck8 (by decide) rfl (.inl q1487) dX8_undo_16 rfl
theorem r231_19 : Sd gd_mt M231 19 (i_psh (.int 1) 20) := sd_iconst dX8_undo_19 (by decide) rfl
theorem r231_20 : Sd gd_mt M231 20 (i_isub 21) := sd_isub dX8_undo_20 rfl
theorem r231_21 : Sd gd_mt M231 21 (i_putI 8 33 24) := sd_putI ck8 (by decide) rfl (.inl q1487) (.inl rfl) dX8_undo_21 rfl
theorem r231_24 : Sd gd_mt M231 24 (i_psh (.int 0) 25) := sd_iconst dX8_undo_24 (by decide) rfl
theorem r231_25 : Sd gd_mt M231 25 (i_ist 1 26) := sd_istore_n dX8_undo_25 rfl (by decide) rfl
theorem r231_26 : Sd gd_mt M231 26 (i_msk [true, true] (i_ild 1 27)) := sd_msk _ (sd_iload_n dX8_undo_26 rfl rfl)
theorem r231_27 : Sd gd_mt M231 27 (i_psh (.int 50) 29) := sd_bipush dX8_undo_27 (by decide) rfl
theorem r231_29 : Sd gd_mt M231 29 (i_icge 58 32) := sd_icge dX8_undo_29 (by decide) rfl
theorem r231_32 : Sd gd_mt M231 32 (i_ald 0 33) := sd_aload_n dX8_undo_32 rfl rfl
theorem r231_33 : Sd gd_mt M231 33 (i_getR 8 38 36) := sd_getR ck8 (by decide) rfl (.inl q1492) dX8_undo_33 rfl
theorem r231_36 : Sd gd_mt M231 36 (i_ild 1 37) := sd_iload_n dX8_undo_36 rfl rfl
theorem r231_37 : Sd gd_mt M231 37 (i_ald 0 38) := sd_aload_n dX8_undo_37 rfl rfl
theorem r231_38 : Sd gd_mt M231 38 (i_getR 8 40 41) := sd_getR ck8 (by decide) rfl (.inl q1494) dX8_undo_38 rfl
theorem r231_41 : Sd gd_mt M231 41 (i_psh (.int 50) 43) := sd_bipush dX8_undo_41 (by decide) rfl
theorem r231_43 : Sd gd_mt M231 43 (i_ald 0 44) := sd_aload_n dX8_undo_43 rfl rfl
theorem r231_44 : Sd gd_mt M231 44 (i_getI 8 33 47) := sd_getI ck8 (by decide) rfl (.inl q1487) dX8_undo_44 rfl
theorem r231_47 : Sd gd_mt M231 47 (i_imul 48) := sd_imul dX8_undo_47 rfl
theorem r231_48 : Sd gd_mt M231 48 (i_ild 1 49) := sd_iload_n dX8_undo_48 rfl rfl
theorem r231_49 : Sd gd_mt M231 49 (i_iadd 50) := sd_iadd dX8_undo_49 rfl
theorem r231_50 : Sd gd_mt M231 50 (i_aldI 31 51) := sd_iald dX8_undo_50 rfl
theorem r231_51 : Sd gd_mt M231 51 (i_astI 52) := sd_astI dX8_undo_51 rfl
theorem r231_52 : Sd gd_mt M231 52 (i_inc 1 1 55) := sd_iinc dX8_undo_52 (by decide) (by decide) rfl
theorem r231_55 : Sd gd_mt M231 55 (i_goto 26) := sd_goto dX8_undo_55 (by decide)
theorem r231_58 : Sd gd_mt M231 58 (i_ald 0 59) := sd_aload_n dX8_undo_58 rfl rfl
theorem r231_59 : Sd gd_mt M231 59 (i_psh (.int 0) 60) := sd_iconst dX8_undo_59 (by decide) rfl
theorem r231_60 : Sd gd_mt M231 60 (i_putI 8 34 63) := sd_putI ck8 (by decide) rfl (.inl q1488) (.inl rfl) dX8_undo_60 rfl
theorem r231_63 : Sd gd_mt M231 63 (i_ald 0 64) := sd_aload_n dX8_undo_63 rfl rfl
theorem r231_64 : Sd gd_mt M231 64 (i_getI 8 33 67) := sd_getI ck8 (by decide) rfl (.inl q1487) dX8_undo_64 rfl
theorem r231_67 : Sd gd_mt M231 67 (i_iret) := sd_iret rfl dX8_undo_67
def cl231_0 : List (Nat × gd_I) := [(0, i_ald 0 1), (1, i_psh (.int 0) 2), (2, i_putI 8 0 5), (5, i_ald 0 6), (6, i_getI 8 33 9), (9, i_ifne 14 12), (12, i_psh (.int (-1)) 13), (13, i_iret), (14, i_ald 0 15), (15, i_dup 16), (16, i_getI 8 33 19), (19, i_psh (.int 1) 20), (20, i_isub 21), (21, i_putI 8 33 24), (24, i_psh (.int 0) 25), (25, i_ist 1 26), (26, i_msk [true, true] (i_ild 1 27)), (27, i_psh (.int 50) 29), (29, i_icge 58 32), (32, i_ald 0 33), (33, i_getR 8 38 36), (36, i_ild 1 37), (37, i_ald 0 38), (38, i_getR 8 40 41), (41, i_psh (.int 50) 43), (43, i_ald 0 44), (44, i_getI 8 33 47), (47, i_imul 48), (48, i_ild 1 49), (49, i_iadd 50), (50, i_aldI 31 51), (51, i_astI 52), (52, i_inc 1 1 55), (55, i_goto 26), (58, i_ald 0 59), (59, i_psh (.int 0) 60), (60, i_putI 8 34 63), (63, i_ald 0 64), (64, i_getI 8 33 67), (67, i_iret)]
theorem cs231_0 : ∀ q ∈ cl231_0, Sd gd_mt M231 q.1 q.2 := gd_ac r231_0 (gd_ac r231_1 (gd_ac r231_2 (gd_ac r231_5 (gd_ac r231_6 (gd_ac r231_9 (gd_ac r231_12 (gd_ac r231_13 (gd_ac r231_14 (gd_ac r231_15 (gd_ac r231_16 (gd_ac r231_19 (gd_ac r231_20 (gd_ac r231_21 (gd_ac r231_24 (gd_ac r231_25 (gd_ac r231_26 (gd_ac r231_27 (gd_ac r231_29 (gd_ac r231_32 (gd_ac r231_33 (gd_ac r231_36 (gd_ac r231_37 (gd_ac r231_38 (gd_ac r231_41 (gd_ac r231_43 (gd_ac r231_44 (gd_ac r231_47 (gd_ac r231_48 (gd_ac r231_49 (gd_ac r231_50 (gd_ac r231_51 (gd_ac r231_52 (gd_ac r231_55 (gd_ac r231_58 (gd_ac r231_59 (gd_ac r231_60 (gd_ac r231_63 (gd_ac r231_64 (gd_ac r231_67 (gd_an))))))))))))))))))))))))))))))))))))))))
def cd231 (pc : Nat) : gd_I := lkI cl231_0 pc
theorem cg231 : ∀ pc, Sd gd_mt M231 pc (cd231 pc) := sd_lk cs231_0
theorem r232_0 : Sd gd_mt M232 0 (i_ald 0 1) := sd_aload_n dX8_told_0 rfl rfl
theorem r232_1 : Sd gd_mt M232 1 (i_psh (.int 0) 2) := sd_iconst dX8_told_1 (by decide) rfl
theorem r232_2 : Sd gd_mt M232 2 (i_putI 8 0 5) := sd_putI ck8 (by decide) rfl (.inl q1454) (.inl rfl) dX8_told_2 rfl
theorem r232_5 : Sd gd_mt M232 5 (i_ald 0 6) := sd_aload_n dX8_told_5 rfl rfl
theorem r232_6 : Sd gd_mt M232 6 (i_ild 1 7) := sd_iload_n dX8_told_6 rfl rfl
theorem r232_7 : Sd gd_mt M232 7 (i_psh (.int 0) 8) := sd_iconst dX8_told_7 (by decide) rfl
theorem r232_8 : Sd gd_mt M232 8 (i_psh (.int 11) 10) := sd_bipush dX8_told_8 (by decide) rfl
theorem r232_10 : Sd gd_mt M232 10 (i_cS 233 3 13) := sd_cS2 e233 cal233 q1853 q1854 dX8_told_10 rfl
theorem r232_13 : Sd gd_mt M232 13 (i_msk [true, true] (i_psh (.int 1) 14)) := sd_msk _ (sd_iconst dX8_told_13 (by decide) rfl)
theorem r232_14 : Sd gd_mt M232 14 (i_psh (.int 1) 15) := sd_iconst dX8_told_14 (by decide) rfl
theorem r232_15 : Sd gd_mt M232 15 (i_cV 183 3 8 18) := sd_cV2 e183 cal183 q1639 q1641 (rfl : gd_cl 8 = some _) qs30 dX8_told_15 rfl
theorem r232_18 : Sd gd_mt M232 18 (i_msk [true, true] (i_ifne 23 21)) := sd_msk _ (sd_ifne dX8_told_18 (by decide) rfl)
theorem r232_21 : Sd gd_mt M232 21 (i_psh (.int 0) 22) := sd_iconst dX8_told_21 (by decide) rfl
theorem r232_22 : Sd gd_mt M232 22 (i_iret) := sd_iret rfl dX8_told_22
theorem r232_23 : Sd gd_mt M232 23 (i_ald 0 24) := sd_aload_n dX8_told_23 rfl rfl
theorem r232_24 : Sd gd_mt M232 24 (i_cV 211 0 8 27) := sd_cV2 e211 cal211 q1767 q1769 (rfl : gd_cl 8 = some _) qs52 dX8_told_24 rfl
theorem r232_27 : Sd gd_mt M232 27 (i_msk [true, true] (i_ild 1 28)) := sd_msk _ (sd_iload_n dX8_told_27 rfl rfl)
theorem r232_28 : Sd gd_mt M232 28 (i_psh (.int 3) 29) := sd_iconst dX8_told_28 (by decide) rfl
theorem r232_29 : Sd gd_mt M232 29 (i_icge 63 32) := sd_icge dX8_told_29 (by decide) rfl
theorem r232_32 : Sd gd_mt M232 32 (i_ild 1 33) := sd_iload_n dX8_told_32 rfl rfl
theorem r232_33 : Sd gd_mt M232 33 (i_ifne 43 36) := sd_ifne dX8_told_33 (by decide) rfl
theorem r232_36 : Sd gd_mt M232 36 (i_ald 0 37) := sd_aload_n dX8_told_36 rfl rfl
theorem r232_37 : Sd gd_mt M232 37 (i_getI 8 20 40) := sd_getI ck8 (by decide) rfl (.inl q1474) dX8_told_37 rfl
theorem r232_40 : Sd gd_mt M232 40 (i_goto 62) := sd_goto dX8_told_40 (by decide)
theorem r232_43 : Sd gd_mt M232 43 (i_ild 1 44) := sd_iload_n dX8_told_43 rfl rfl
theorem r232_44 : Sd gd_mt M232 44 (i_psh (.int 1) 45) := sd_iconst dX8_told_44 (by decide) rfl
theorem r232_45 : Sd gd_mt M232 45 (i_icne 55 48) := sd_icne dX8_told_45 (by decide) rfl
theorem r232_48 : Sd gd_mt M232 48 (i_ald 0 49) := sd_aload_n dX8_told_48 rfl rfl
theorem r232_49 : Sd gd_mt M232 49 (i_getI 8 21 52) := sd_getI ck8 (by decide) rfl (.inl q1475) dX8_told_49 rfl
theorem r232_52 : Sd gd_mt M232 52 (i_goto 62) := sd_goto dX8_told_52 (by decide)
theorem r232_55 : Sd gd_mt M232 55 (i_ald 0 56) := sd_aload_n dX8_told_55 rfl rfl
theorem r232_56 : Sd gd_mt M232 56 (i_getR 8 39 59) := sd_getR ck8 (by decide) rfl (.inl q1493) dX8_told_56 rfl
theorem r232_59 : Sd gd_mt M232 59 (i_psh (.int 49) 61) := sd_bipush dX8_told_59 (by decide) rfl
theorem r232_61 : Sd gd_mt M232 61 (i_aldI 31 62) := sd_iald dX8_told_61 rfl
theorem r232_62 : Sd gd_mt M232 62 (i_msk [false, false] (i_iret)) := sd_msk _ (sd_iret rfl dX8_told_62)
theorem r232_63 : Sd gd_mt M232 63 (i_ild 1 64) := sd_iload_n dX8_told_63 rfl rfl
theorem r232_64 : Sd gd_mt M232 64 (i_psh (.int 5) 65) := sd_iconst dX8_told_64 (by decide) rfl
theorem r232_65 : Sd gd_mt M232 65 (i_iceq 80 68) := sd_iceq dX8_told_65 (by decide) rfl
theorem r232_68 : Sd gd_mt M232 68 (i_ild 1 69) := sd_iload_n dX8_told_68 rfl rfl
theorem r232_69 : Sd gd_mt M232 69 (i_psh (.int 6) 71) := sd_bipush dX8_told_69 (by decide) rfl
theorem r232_71 : Sd gd_mt M232 71 (i_iceq 80 74) := sd_iceq dX8_told_71 (by decide) rfl
theorem r232_74 : Sd gd_mt M232 74 (i_ild 1 75) := sd_iload_n dX8_told_74 rfl rfl
theorem r232_75 : Sd gd_mt M232 75 (i_psh (.int 11) 77) := sd_bipush dX8_told_75 (by decide) rfl
theorem r232_77 : Sd gd_mt M232 77 (i_icne 86 80) := sd_icne dX8_told_77 (by decide) rfl
theorem r232_80 : Sd gd_mt M232 80 (i_msk [true, true] (i_ald 0 81)) := sd_msk _ (sd_aload_n dX8_told_80 rfl rfl)
theorem r232_81 : Sd gd_mt M232 81 (i_ild 1 82) := sd_iload_n dX8_told_81 rfl rfl
theorem r232_82 : Sd gd_mt M232 82 (i_cV 234 1 8 85) := sd_cV2 e234 cal234 q1856 q1858 (rfl : gd_cl 8 = some _) qs69 dX8_told_82 rfl
theorem r232_85 : Sd gd_mt M232 85 (i_msk [false, false] (i_iret)) := sd_msk _ (sd_iret rfl dX8_told_85)
def cl232_0 : List (Nat × gd_I) := [(0, i_ald 0 1), (1, i_psh (.int 0) 2), (2, i_putI 8 0 5), (5, i_ald 0 6), (6, i_ild 1 7), (7, i_psh (.int 0) 8), (8, i_psh (.int 11) 10), (10, i_cS 233 3 13), (13, i_msk [true, true] (i_psh (.int 1) 14)), (14, i_psh (.int 1) 15), (15, i_cV 183 3 8 18), (18, i_msk [true, true] (i_ifne 23 21)), (21, i_psh (.int 0) 22), (22, i_iret), (23, i_ald 0 24), (24, i_cV 211 0 8 27), (27, i_msk [true, true] (i_ild 1 28)), (28, i_psh (.int 3) 29), (29, i_icge 63 32), (32, i_ild 1 33), (33, i_ifne 43 36), (36, i_ald 0 37), (37, i_getI 8 20 40), (40, i_goto 62), (43, i_ild 1 44), (44, i_psh (.int 1) 45), (45, i_icne 55 48), (48, i_ald 0 49), (49, i_getI 8 21 52), (52, i_goto 62), (55, i_ald 0 56), (56, i_getR 8 39 59), (59, i_psh (.int 49) 61), (61, i_aldI 31 62), (62, i_msk [false, false] (i_iret)), (63, i_ild 1 64), (64, i_psh (.int 5) 65), (65, i_iceq 80 68), (68, i_ild 1 69), (69, i_psh (.int 6) 71), (71, i_iceq 80 74), (74, i_ild 1 75), (75, i_psh (.int 11) 77), (77, i_icne 86 80), (80, i_msk [true, true] (i_ald 0 81)), (81, i_ild 1 82), (82, i_cV 234 1 8 85), (85, i_msk [false, false] (i_iret))]
theorem cs232_0 : ∀ q ∈ cl232_0, Sd gd_mt M232 q.1 q.2 := gd_ac r232_0 (gd_ac r232_1 (gd_ac r232_2 (gd_ac r232_5 (gd_ac r232_6 (gd_ac r232_7 (gd_ac r232_8 (gd_ac r232_10 (gd_ac r232_13 (gd_ac r232_14 (gd_ac r232_15 (gd_ac r232_18 (gd_ac r232_21 (gd_ac r232_22 (gd_ac r232_23 (gd_ac r232_24 (gd_ac r232_27 (gd_ac r232_28 (gd_ac r232_29 (gd_ac r232_32 (gd_ac r232_33 (gd_ac r232_36 (gd_ac r232_37 (gd_ac r232_40 (gd_ac r232_43 (gd_ac r232_44 (gd_ac r232_45 (gd_ac r232_48 (gd_ac r232_49 (gd_ac r232_52 (gd_ac r232_55 (gd_ac r232_56 (gd_ac r232_59 (gd_ac r232_61 (gd_ac r232_62 (gd_ac r232_63 (gd_ac r232_64 (gd_ac r232_65 (gd_ac r232_68 (gd_ac r232_69 (gd_ac r232_71 (gd_ac r232_74 (gd_ac r232_75 (gd_ac r232_77 (gd_ac r232_80 (gd_ac r232_81 (gd_ac r232_82 (gd_ac r232_85 (gd_an))))))))))))))))))))))))))))))))))))))))))))))))
theorem r232_86 : Sd gd_mt M232 86 (i_ild 1 87) := sd_iload_n dX8_told_86 rfl rfl
theorem r232_87 : Sd gd_mt M232 87 (i_psh (.int 8) 89) := sd_bipush dX8_told_87 (by decide) rfl
theorem r232_89 : Sd gd_mt M232 89 (i_icge 128 92) := sd_icge dX8_told_89 (by decide) rfl
theorem r232_92 : Sd gd_mt M232 92 (i_ild 1 93) := sd_iload_n dX8_told_92 rfl rfl
theorem r232_93 : Sd gd_mt M232 93 (i_psh (.int 3) 94) := sd_iconst dX8_told_93 (by decide) rfl
theorem r232_94 : Sd gd_mt M232 94 (i_icne 108 97) := sd_icne dX8_told_94 (by decide) rfl
theorem r232_97 : Sd gd_mt M232 97 (i_ald 0 98) := sd_aload_n dX8_told_97 rfl rfl
theorem r232_98 : Sd gd_mt M232 98 (i_ald 0 99) := sd_aload_n dX8_told_98 rfl rfl
theorem r232_99 : Sd gd_mt M232 99 (i_getI 8 20 102) := sd_getI ck8 (by decide) rfl (.inl q1474) dX8_told_99 rfl
theorem r232_102 : Sd gd_mt M232 102 (i_cV 216 1 8 105) := sd_cV2 e216 cal216 q1787 q1789 (rfl : gd_cl 8 = some _) qs57 dX8_told_102 rfl
theorem r232_105 : Sd gd_mt M232 105 (i_msk [false, false] (i_goto 127)) := sd_msk _ (sd_goto dX8_told_105 (by decide))
theorem r232_108 : Sd gd_mt M232 108 (i_ild 1 109) := sd_iload_n dX8_told_108 rfl rfl
theorem r232_109 : Sd gd_mt M232 109 (i_psh (.int 4) 110) := sd_iconst dX8_told_109 (by decide) rfl
theorem r232_110 : Sd gd_mt M232 110 (i_icne 123 113) := sd_icne dX8_told_110 (by decide) rfl
theorem r232_113 : Sd gd_mt M232 113 (i_ald 0 114) := sd_aload_n dX8_told_113 rfl rfl
theorem r232_114 : Sd gd_mt M232 114 (i_getR 8 39 117) := sd_getR ck8 (by decide) rfl (.inl q1493) dX8_told_114 rfl
theorem r232_117 : Sd gd_mt M232 117 (i_psh (.int 48) 119) := sd_bipush dX8_told_117 (by decide) rfl
theorem r232_119 : Sd gd_mt M232 119 (i_aldI 31 120) := sd_iald dX8_told_119 rfl
theorem r232_120 : Sd gd_mt M232 120 (i_goto 127) := sd_goto dX8_told_120 (by decide)
theorem r232_123 : Sd gd_mt M232 123 (i_ald 0 124) := sd_aload_n dX8_told_123 rfl rfl
theorem r232_124 : Sd gd_mt M232 124 (i_cV 235 0 8 127) := sd_cV2 e235 cal235 q1860 q1862 (rfl : gd_cl 8 = some _) qs70 dX8_told_124 rfl
theorem r232_127 : Sd gd_mt M232 127 (i_msk [false, false] (i_iret)) := sd_msk _ (sd_iret rfl dX8_told_127)
theorem r232_128 : Sd gd_mt M232 128 (i_ild 1 129) := sd_iload_n dX8_told_128 rfl rfl
theorem r232_129 : Sd gd_mt M232 129 (i_psh (.int 8) 131) := sd_bipush dX8_told_129 (by decide) rfl
theorem r232_131 : Sd gd_mt M232 131 (i_icne 141 134) := sd_icne dX8_told_131 (by decide) rfl
theorem r232_134 : Sd gd_mt M232 134 (i_ald 0 135) := sd_aload_n dX8_told_134 rfl rfl
theorem r232_135 : Sd gd_mt M232 135 (i_cV 221 0 8 138) := sd_cV2 e221 cal221 q1807 q1809 (rfl : gd_cl 8 = some _) qs62 dX8_told_135 rfl
theorem r232_138 : Sd gd_mt M232 138 (i_msk [false, false] (i_goto 158)) := sd_msk _ (sd_goto dX8_told_138 (by decide))
theorem r232_141 : Sd gd_mt M232 141 (i_ild 1 142) := sd_iload_n dX8_told_141 rfl rfl
theorem r232_142 : Sd gd_mt M232 142 (i_psh (.int 9) 144) := sd_bipush dX8_told_142 (by decide) rfl
theorem r232_144 : Sd gd_mt M232 144 (i_icne 154 147) := sd_icne dX8_told_144 (by decide) rfl
theorem r232_147 : Sd gd_mt M232 147 (i_ald 0 148) := sd_aload_n dX8_told_147 rfl rfl
theorem r232_148 : Sd gd_mt M232 148 (i_getI 8 45 151) := sd_getI ck8 (by decide) rfl (.inl q1499) dX8_told_148 rfl
theorem r232_151 : Sd gd_mt M232 151 (i_goto 158) := sd_goto dX8_told_151 (by decide)
theorem r232_154 : Sd gd_mt M232 154 (i_ald 0 155) := sd_aload_n dX8_told_154 rfl rfl
theorem r232_155 : Sd gd_mt M232 155 (i_getI 8 34 158) := sd_getI ck8 (by decide) rfl (.inl q1488) dX8_told_155 rfl
theorem r232_158 : Sd gd_mt M232 158 (i_msk [false, false] (i_iret)) := sd_msk _ (sd_iret rfl dX8_told_158)
def cl232_1 : List (Nat × gd_I) := [(86, i_ild 1 87), (87, i_psh (.int 8) 89), (89, i_icge 128 92), (92, i_ild 1 93), (93, i_psh (.int 3) 94), (94, i_icne 108 97), (97, i_ald 0 98), (98, i_ald 0 99), (99, i_getI 8 20 102), (102, i_cV 216 1 8 105), (105, i_msk [false, false] (i_goto 127)), (108, i_ild 1 109), (109, i_psh (.int 4) 110), (110, i_icne 123 113), (113, i_ald 0 114), (114, i_getR 8 39 117), (117, i_psh (.int 48) 119), (119, i_aldI 31 120), (120, i_goto 127), (123, i_ald 0 124), (124, i_cV 235 0 8 127), (127, i_msk [false, false] (i_iret)), (128, i_ild 1 129), (129, i_psh (.int 8) 131), (131, i_icne 141 134), (134, i_ald 0 135), (135, i_cV 221 0 8 138), (138, i_msk [false, false] (i_goto 158)), (141, i_ild 1 142), (142, i_psh (.int 9) 144), (144, i_icne 154 147), (147, i_ald 0 148), (148, i_getI 8 45 151), (151, i_goto 158), (154, i_ald 0 155), (155, i_getI 8 34 158), (158, i_msk [false, false] (i_iret))]
theorem cs232_1 : ∀ q ∈ cl232_1, Sd gd_mt M232 q.1 q.2 := gd_ac r232_86 (gd_ac r232_87 (gd_ac r232_89 (gd_ac r232_92 (gd_ac r232_93 (gd_ac r232_94 (gd_ac r232_97 (gd_ac r232_98 (gd_ac r232_99 (gd_ac r232_102 (gd_ac r232_105 (gd_ac r232_108 (gd_ac r232_109 (gd_ac r232_110 (gd_ac r232_113 (gd_ac r232_114 (gd_ac r232_117 (gd_ac r232_119 (gd_ac r232_120 (gd_ac r232_123 (gd_ac r232_124 (gd_ac r232_127 (gd_ac r232_128 (gd_ac r232_129 (gd_ac r232_131 (gd_ac r232_134 (gd_ac r232_135 (gd_ac r232_138 (gd_ac r232_141 (gd_ac r232_142 (gd_ac r232_144 (gd_ac r232_147 (gd_ac r232_148 (gd_ac r232_151 (gd_ac r232_154 (gd_ac r232_155 (gd_ac r232_158 (gd_an)))))))))))))))))))))))))))))))))))))
def cd232 (pc : Nat) : gd_I := if pc < 86 then lkI cl232_0 pc else lkI cl232_1 pc
theorem cg232 : ∀ pc, Sd gd_mt M232 pc (cd232 pc) := by
  intro pc
  unfold cd232
  by_cases h0 : pc < 86
  · rw [if_pos h0]; exact sd_lk cs232_0 pc
  rw [if_neg h0]
  exact sd_lk cs232_1 pc
theorem r233_0 : Sd gd_mt M233 0 (i_ild 0 1) := sd_iload_n dX8_within_0 rfl rfl
theorem r233_1 : Sd gd_mt M233 1 (i_ild 1 2) := sd_iload_n dX8_within_1 rfl rfl
theorem r233_2 : Sd gd_mt M233 2 (i_iclt 14 5) := sd_iclt dX8_within_2 (by decide) rfl
theorem r233_5 : Sd gd_mt M233 5 (i_ild 0 6) := sd_iload_n dX8_within_5 rfl rfl
theorem r233_6 : Sd gd_mt M233 6 (i_ild 2 7) := sd_iload_n dX8_within_6 rfl rfl
theorem r233_7 : Sd gd_mt M233 7 (i_icgt 14 10) := sd_icgt dX8_within_7 (by decide) rfl
theorem r233_10 : Sd gd_mt M233 10 (i_psh (.int 1) 11) := sd_iconst dX8_within_10 (by decide) rfl
theorem r233_11 : Sd gd_mt M233 11 (i_goto 15) := sd_goto dX8_within_11 (by decide)
theorem r233_14 : Sd gd_mt M233 14 (i_msk [false, false, false] (i_psh (.int 0) 15)) := sd_msk _ (sd_iconst dX8_within_14 (by decide) rfl)
theorem r233_15 : Sd gd_mt M233 15 (i_msk [false, false, false] (i_zret)) := sd_msk _ (sd_zret rfl dX8_within_15)
def cl233_0 : List (Nat × gd_I) := [(0, i_ild 0 1), (1, i_ild 1 2), (2, i_iclt 14 5), (5, i_ild 0 6), (6, i_ild 2 7), (7, i_icgt 14 10), (10, i_psh (.int 1) 11), (11, i_goto 15), (14, i_msk [false, false, false] (i_psh (.int 0) 15)), (15, i_msk [false, false, false] (i_zret))]
theorem cs233_0 : ∀ q ∈ cl233_0, Sd gd_mt M233 q.1 q.2 := gd_ac r233_0 (gd_ac r233_1 (gd_ac r233_2 (gd_ac r233_5 (gd_ac r233_6 (gd_ac r233_7 (gd_ac r233_10 (gd_ac r233_11 (gd_ac r233_14 (gd_ac r233_15 (gd_an))))))))))
def cd233 (pc : Nat) : gd_I := lkI cl233_0 pc
theorem cg233 : ∀ pc, Sd gd_mt M233 pc (cd233 pc) := sd_lk cs233_0
theorem r234_0 : Sd gd_mt M234 0 (i_psh (.int 0) 1) := sd_iconst dX8_bitsTold_0 (by decide) rfl
theorem r234_1 : Sd gd_mt M234 1 (i_ist 2 2) := sd_istore_n dX8_bitsTold_1 rfl (by decide) rfl
theorem r234_2 : Sd gd_mt M234 2 (i_psh (.int 0) 3) := sd_iconst dX8_bitsTold_2 (by decide) rfl
theorem r234_3 : Sd gd_mt M234 3 (i_ist 3 4) := sd_istore_n dX8_bitsTold_3 rfl (by decide) rfl
theorem r234_4 : Sd gd_mt M234 4 (i_msk [true, true, true, true] (i_ild 3 5)) := sd_msk _ (sd_iload_n dX8_bitsTold_4 rfl rfl)
theorem r234_5 : Sd gd_mt M234 5 (i_ald 0 6) := sd_aload_n dX8_bitsTold_5 rfl rfl
theorem r234_6 : Sd gd_mt M234 6 (i_getI 8 21 9) := sd_getI ck8 (by decide) rfl (.inl q1475) dX8_bitsTold_6 rfl
theorem r234_9 : Sd gd_mt M234 9 (i_icge 90 12) := sd_icge dX8_bitsTold_9 (by decide) rfl
theorem r234_12 : Sd gd_mt M234 12 (i_ild 2 13) := sd_iload_n dX8_bitsTold_12 rfl rfl
theorem r234_13 : Sd gd_mt M234 13 (i_ild 1 14) := sd_iload_n dX8_bitsTold_13 rfl rfl
theorem r234_14 : Sd gd_mt M234 14 (i_psh (.int 5) 15) := sd_iconst dX8_bitsTold_14 (by decide) rfl
theorem r234_15 : Sd gd_mt M234 15 (i_icne 34 18) := sd_icne dX8_bitsTold_15 (by decide) rfl
theorem r234_18 : Sd gd_mt M234 18 (i_ald 0 19) := sd_aload_n dX8_bitsTold_18 rfl rfl
theorem r234_19 : Sd gd_mt M234 19 (i_getR 8 39 22) := sd_getR ck8 (by decide) rfl (.inl q1493) dX8_bitsTold_19 rfl
theorem r234_22 : Sd gd_mt M234 22 (i_psh (.int 35) 24) := sd_bipush dX8_bitsTold_22 (by decide) rfl
theorem r234_24 : Sd gd_mt M234 24 (i_ild 3 25) := sd_iload_n dX8_bitsTold_24 rfl rfl
theorem r234_25 : Sd gd_mt M234 25 (i_iadd 26) := sd_iadd dX8_bitsTold_25 rfl
theorem r234_26 : Sd gd_mt M234 26 (i_aldI 31 27) := sd_iald dX8_bitsTold_26 rfl
theorem r234_27 : Sd gd_mt M234 27 (i_psh (.int 1) 28) := sd_iconst dX8_bitsTold_27 (by decide) rfl
theorem r234_28 : Sd gd_mt M234 28 (i_icne 81 31) := sd_icne dX8_bitsTold_28 (by decide) rfl
theorem r234_31 : Sd gd_mt M234 31 (i_goto 75) := sd_goto dX8_bitsTold_31 (by decide)
theorem r234_34 : Sd gd_mt M234 34 (i_ild 1 35) := sd_iload_n dX8_bitsTold_34 rfl rfl
theorem r234_35 : Sd gd_mt M234 35 (i_psh (.int 6) 37) := sd_bipush dX8_bitsTold_35 (by decide) rfl
theorem r234_37 : Sd gd_mt M234 37 (i_icne 56 40) := sd_icne dX8_bitsTold_37 (by decide) rfl
theorem r234_40 : Sd gd_mt M234 40 (i_ald 0 41) := sd_aload_n dX8_bitsTold_40 rfl rfl
theorem r234_41 : Sd gd_mt M234 41 (i_getR 8 39 44) := sd_getR ck8 (by decide) rfl (.inl q1493) dX8_bitsTold_41 rfl
theorem r234_44 : Sd gd_mt M234 44 (i_psh (.int 14) 46) := sd_bipush dX8_bitsTold_44 (by decide) rfl
theorem r234_46 : Sd gd_mt M234 46 (i_ild 3 47) := sd_iload_n dX8_bitsTold_46 rfl rfl
theorem r234_47 : Sd gd_mt M234 47 (i_iadd 48) := sd_iadd dX8_bitsTold_47 rfl
theorem r234_48 : Sd gd_mt M234 48 (i_aldI 31 49) := sd_iald dX8_bitsTold_48 rfl
theorem r234_49 : Sd gd_mt M234 49 (i_psh (.int (-1)) 50) := sd_iconst dX8_bitsTold_49 (by decide) rfl
theorem r234_50 : Sd gd_mt M234 50 (i_iceq 81 53) := sd_iceq dX8_bitsTold_50 (by decide) rfl
theorem r234_53 : Sd gd_mt M234 53 (i_goto 75) := sd_goto dX8_bitsTold_53 (by decide)
theorem r234_56 : Sd gd_mt M234 56 (i_ald 0 57) := sd_aload_n dX8_bitsTold_56 rfl rfl
theorem r234_57 : Sd gd_mt M234 57 (i_getR 8 39 60) := sd_getR ck8 (by decide) rfl (.inl q1493) dX8_bitsTold_57 rfl
theorem r234_60 : Sd gd_mt M234 60 (i_psh (.int 0) 61) := sd_iconst dX8_bitsTold_60 (by decide) rfl
theorem r234_61 : Sd gd_mt M234 61 (i_ild 3 62) := sd_iload_n dX8_bitsTold_61 rfl rfl
theorem r234_62 : Sd gd_mt M234 62 (i_iadd 63) := sd_iadd dX8_bitsTold_62 rfl
theorem r234_63 : Sd gd_mt M234 63 (i_aldI 31 64) := sd_iald dX8_bitsTold_63 rfl
theorem r234_64 : Sd gd_mt M234 64 (i_ald 0 65) := sd_aload_n dX8_bitsTold_64 rfl rfl
theorem r234_65 : Sd gd_mt M234 65 (i_ald 0 66) := sd_aload_n dX8_bitsTold_65 rfl rfl
theorem r234_66 : Sd gd_mt M234 66 (i_getI 8 20 69) := sd_getI ck8 (by decide) rfl (.inl q1474) dX8_bitsTold_66 rfl
theorem r234_69 : Sd gd_mt M234 69 (i_cV 216 1 8 72) := sd_cV2 e216 cal216 q1787 q1789 (rfl : gd_cl 8 = some _) qs57 dX8_bitsTold_69 rfl
theorem r234_72 : Sd gd_mt M234 72 (i_msk [true, true, false, true] (i_icle 81 75)) := sd_msk _ (sd_icle dX8_bitsTold_72 (by decide) rfl)
theorem r234_75 : Sd gd_mt M234 75 (i_msk [true, true, false, true] (i_psh (.int 1) 76)) := sd_msk _ (sd_iconst dX8_bitsTold_75 (by decide) rfl)
theorem r234_76 : Sd gd_mt M234 76 (i_ild 3 77) := sd_iload_n dX8_bitsTold_76 rfl rfl
theorem r234_77 : Sd gd_mt M234 77 (i_ishl 78) := sd_ishl dX8_bitsTold_77 rfl
theorem r234_78 : Sd gd_mt M234 78 (i_goto 82) := sd_goto dX8_bitsTold_78 (by decide)
def cl234_0 : List (Nat × gd_I) := [(0, i_psh (.int 0) 1), (1, i_ist 2 2), (2, i_psh (.int 0) 3), (3, i_ist 3 4), (4, i_msk [true, true, true, true] (i_ild 3 5)), (5, i_ald 0 6), (6, i_getI 8 21 9), (9, i_icge 90 12), (12, i_ild 2 13), (13, i_ild 1 14), (14, i_psh (.int 5) 15), (15, i_icne 34 18), (18, i_ald 0 19), (19, i_getR 8 39 22), (22, i_psh (.int 35) 24), (24, i_ild 3 25), (25, i_iadd 26), (26, i_aldI 31 27), (27, i_psh (.int 1) 28), (28, i_icne 81 31), (31, i_goto 75), (34, i_ild 1 35), (35, i_psh (.int 6) 37), (37, i_icne 56 40), (40, i_ald 0 41), (41, i_getR 8 39 44), (44, i_psh (.int 14) 46), (46, i_ild 3 47), (47, i_iadd 48), (48, i_aldI 31 49), (49, i_psh (.int (-1)) 50), (50, i_iceq 81 53), (53, i_goto 75), (56, i_ald 0 57), (57, i_getR 8 39 60), (60, i_psh (.int 0) 61), (61, i_ild 3 62), (62, i_iadd 63), (63, i_aldI 31 64), (64, i_ald 0 65), (65, i_ald 0 66), (66, i_getI 8 20 69), (69, i_cV 216 1 8 72), (72, i_msk [true, true, false, true] (i_icle 81 75)), (75, i_msk [true, true, false, true] (i_psh (.int 1) 76)), (76, i_ild 3 77), (77, i_ishl 78), (78, i_goto 82)]
theorem cs234_0 : ∀ q ∈ cl234_0, Sd gd_mt M234 q.1 q.2 := gd_ac r234_0 (gd_ac r234_1 (gd_ac r234_2 (gd_ac r234_3 (gd_ac r234_4 (gd_ac r234_5 (gd_ac r234_6 (gd_ac r234_9 (gd_ac r234_12 (gd_ac r234_13 (gd_ac r234_14 (gd_ac r234_15 (gd_ac r234_18 (gd_ac r234_19 (gd_ac r234_22 (gd_ac r234_24 (gd_ac r234_25 (gd_ac r234_26 (gd_ac r234_27 (gd_ac r234_28 (gd_ac r234_31 (gd_ac r234_34 (gd_ac r234_35 (gd_ac r234_37 (gd_ac r234_40 (gd_ac r234_41 (gd_ac r234_44 (gd_ac r234_46 (gd_ac r234_47 (gd_ac r234_48 (gd_ac r234_49 (gd_ac r234_50 (gd_ac r234_53 (gd_ac r234_56 (gd_ac r234_57 (gd_ac r234_60 (gd_ac r234_61 (gd_ac r234_62 (gd_ac r234_63 (gd_ac r234_64 (gd_ac r234_65 (gd_ac r234_66 (gd_ac r234_69 (gd_ac r234_72 (gd_ac r234_75 (gd_ac r234_76 (gd_ac r234_77 (gd_ac r234_78 (gd_an))))))))))))))))))))))))))))))))))))))))))))))))
theorem r234_81 : Sd gd_mt M234 81 (i_msk [true, true, false, true] (i_psh (.int 0) 82)) := sd_msk _ (sd_iconst dX8_bitsTold_81 (by decide) rfl)
theorem r234_82 : Sd gd_mt M234 82 (i_msk [true, true, false, true] (i_ior 83)) := sd_msk _ (sd_ior dX8_bitsTold_82 rfl)
theorem r234_83 : Sd gd_mt M234 83 (i_ist 2 84) := sd_istore_n dX8_bitsTold_83 rfl (by decide) rfl
theorem r234_84 : Sd gd_mt M234 84 (i_inc 3 1 87) := sd_iinc dX8_bitsTold_84 (by decide) (by decide) rfl
theorem r234_87 : Sd gd_mt M234 87 (i_goto 4) := sd_goto dX8_bitsTold_87 (by decide)
theorem r234_90 : Sd gd_mt M234 90 (i_ild 2 91) := sd_iload_n dX8_bitsTold_90 rfl rfl
theorem r234_91 : Sd gd_mt M234 91 (i_iret) := sd_iret rfl dX8_bitsTold_91
def cl234_1 : List (Nat × gd_I) := [(81, i_msk [true, true, false, true] (i_psh (.int 0) 82)), (82, i_msk [true, true, false, true] (i_ior 83)), (83, i_ist 2 84), (84, i_inc 3 1 87), (87, i_goto 4), (90, i_ild 2 91), (91, i_iret)]
theorem cs234_1 : ∀ q ∈ cl234_1, Sd gd_mt M234 q.1 q.2 := gd_ac r234_81 (gd_ac r234_82 (gd_ac r234_83 (gd_ac r234_84 (gd_ac r234_87 (gd_ac r234_90 (gd_ac r234_91 (gd_an)))))))
def cd234 (pc : Nat) : gd_I := if pc < 81 then lkI cl234_0 pc else lkI cl234_1 pc
theorem cg234 : ∀ pc, Sd gd_mt M234 pc (cd234 pc) := by
  intro pc
  unfold cd234
  by_cases h0 : pc < 81
  · rw [if_pos h0]; exact sd_lk cs234_0 pc
  rw [if_neg h0]
  exact sd_lk cs234_1 pc
theorem r235_0 : Sd gd_mt M235 0 (i_psh (.int (-1)) 1) := sd_iconst dX8_famousNow_0 (by decide) rfl
theorem r235_1 : Sd gd_mt M235 1 (i_ist 1 2) := sd_istore_n dX8_famousNow_1 rfl (by decide) rfl
theorem r235_2 : Sd gd_mt M235 2 (i_psh (.int 0) 3) := sd_iconst dX8_famousNow_2 (by decide) rfl
theorem r235_3 : Sd gd_mt M235 3 (i_ist 2 4) := sd_istore_n dX8_famousNow_3 rfl (by decide) rfl
theorem r235_4 : Sd gd_mt M235 4 (i_msk [true, true, true] (i_ild 2 5)) := sd_msk _ (sd_iload_n dX8_famousNow_4 rfl rfl)
theorem r235_5 : Sd gd_mt M235 5 (i_ald 0 6) := sd_aload_n dX8_famousNow_5 rfl rfl
theorem r235_6 : Sd gd_mt M235 6 (i_getI 8 21 9) := sd_getI ck8 (by decide) rfl (.inl q1475) dX8_famousNow_6 rfl
theorem r235_9 : Sd gd_mt M235 9 (i_icge 51 12) := sd_icge dX8_famousNow_9 (by decide) rfl
theorem r235_12 : Sd gd_mt M235 12 (i_ald 0 13) := sd_aload_n dX8_famousNow_12 rfl rfl
theorem r235_13 : Sd gd_mt M235 13 (i_getR 8 39 16) := sd_getR ck8 (by decide) rfl (.inl q1493) dX8_famousNow_13 rfl
theorem r235_16 : Sd gd_mt M235 16 (i_psh (.int 14) 18) := sd_bipush dX8_famousNow_16 (by decide) rfl
theorem r235_18 : Sd gd_mt M235 18 (i_ild 2 19) := sd_iload_n dX8_famousNow_18 rfl rfl
theorem r235_19 : Sd gd_mt M235 19 (i_iadd 20) := sd_iadd dX8_famousNow_19 rfl
theorem r235_20 : Sd gd_mt M235 20 (i_aldI 31 21) := sd_iald dX8_famousNow_20 rfl
theorem r235_21 : Sd gd_mt M235 21 (i_psh (.int (-1)) 22) := sd_iconst dX8_famousNow_21 (by decide) rfl
theorem r235_22 : Sd gd_mt M235 22 (i_iceq 45 25) := sd_iceq dX8_famousNow_22 (by decide) rfl
theorem r235_25 : Sd gd_mt M235 25 (i_ild 1 26) := sd_iload_n dX8_famousNow_25 rfl rfl
theorem r235_26 : Sd gd_mt M235 26 (i_psh (.int (-1)) 27) := sd_iconst dX8_famousNow_26 (by decide) rfl
theorem r235_27 : Sd gd_mt M235 27 (i_iceq 43 30) := sd_iceq dX8_famousNow_27 (by decide) rfl
theorem r235_30 : Sd gd_mt M235 30 (i_ald 0 31) := sd_aload_n dX8_famousNow_30 rfl rfl
theorem r235_31 : Sd gd_mt M235 31 (i_ild 2 32) := sd_iload_n dX8_famousNow_31 rfl rfl
theorem r235_32 : Sd gd_mt M235 32 (i_cV 222 1 8 35) := sd_cV2 e222 cal222 q1811 q1813 (rfl : gd_cl 8 = some _) qs63 dX8_famousNow_32 rfl
theorem r235_35 : Sd gd_mt M235 35 (i_msk [true, true, true] (i_ald 0 36)) := sd_msk _ (sd_aload_n dX8_famousNow_35 rfl rfl)
theorem r235_36 : Sd gd_mt M235 36 (i_ild 1 37) := sd_iload_n dX8_famousNow_36 rfl rfl
theorem r235_37 : Sd gd_mt M235 37 (i_cV 222 1 8 40) := sd_cV2 e222 cal222 q1811 q1813 (rfl : gd_cl 8 = some _) qs63 dX8_famousNow_37 rfl
theorem r235_40 : Sd gd_mt M235 40 (i_msk [true, true, true] (i_icle 45 43)) := sd_msk _ (sd_icle dX8_famousNow_40 (by decide) rfl)
theorem r235_43 : Sd gd_mt M235 43 (i_msk [true, false, true] (i_ild 2 44)) := sd_msk _ (sd_iload_n dX8_famousNow_43 rfl rfl)
theorem r235_44 : Sd gd_mt M235 44 (i_ist 1 45) := sd_istore_n dX8_famousNow_44 rfl (by decide) rfl
theorem r235_45 : Sd gd_mt M235 45 (i_msk [true, true, true] (i_inc 2 1 48)) := sd_msk _ (sd_iinc dX8_famousNow_45 (by decide) (by decide) rfl)
theorem r235_48 : Sd gd_mt M235 48 (i_goto 4) := sd_goto dX8_famousNow_48 (by decide)
theorem r235_51 : Sd gd_mt M235 51 (i_ild 1 52) := sd_iload_n dX8_famousNow_51 rfl rfl
theorem r235_52 : Sd gd_mt M235 52 (i_iret) := sd_iret rfl dX8_famousNow_52
def cl235_0 : List (Nat × gd_I) := [(0, i_psh (.int (-1)) 1), (1, i_ist 1 2), (2, i_psh (.int 0) 3), (3, i_ist 2 4), (4, i_msk [true, true, true] (i_ild 2 5)), (5, i_ald 0 6), (6, i_getI 8 21 9), (9, i_icge 51 12), (12, i_ald 0 13), (13, i_getR 8 39 16), (16, i_psh (.int 14) 18), (18, i_ild 2 19), (19, i_iadd 20), (20, i_aldI 31 21), (21, i_psh (.int (-1)) 22), (22, i_iceq 45 25), (25, i_ild 1 26), (26, i_psh (.int (-1)) 27), (27, i_iceq 43 30), (30, i_ald 0 31), (31, i_ild 2 32), (32, i_cV 222 1 8 35), (35, i_msk [true, true, true] (i_ald 0 36)), (36, i_ild 1 37), (37, i_cV 222 1 8 40), (40, i_msk [true, true, true] (i_icle 45 43)), (43, i_msk [true, false, true] (i_ild 2 44)), (44, i_ist 1 45), (45, i_msk [true, true, true] (i_inc 2 1 48)), (48, i_goto 4), (51, i_ild 1 52), (52, i_iret)]
theorem cs235_0 : ∀ q ∈ cl235_0, Sd gd_mt M235 q.1 q.2 := gd_ac r235_0 (gd_ac r235_1 (gd_ac r235_2 (gd_ac r235_3 (gd_ac r235_4 (gd_ac r235_5 (gd_ac r235_6 (gd_ac r235_9 (gd_ac r235_12 (gd_ac r235_13 (gd_ac r235_16 (gd_ac r235_18 (gd_ac r235_19 (gd_ac r235_20 (gd_ac r235_21 (gd_ac r235_22 (gd_ac r235_25 (gd_ac r235_26 (gd_ac r235_27 (gd_ac r235_30 (gd_ac r235_31 (gd_ac r235_32 (gd_ac r235_35 (gd_ac r235_36 (gd_ac r235_37 (gd_ac r235_40 (gd_ac r235_43 (gd_ac r235_44 (gd_ac r235_45 (gd_ac r235_48 (gd_ac r235_51 (gd_ac r235_52 (gd_an))))))))))))))))))))))))))))))))
def cd235 (pc : Nat) : gd_I := lkI cl235_0 pc
theorem cg235 : ∀ pc, Sd gd_mt M235 pc (cd235 pc) := sd_lk cs235_0
theorem r236_0 : Sd gd_mt M236 0 (i_ald 0 1) := sd_aload_n dX8_board_0 rfl rfl
theorem r236_1 : Sd gd_mt M236 1 (i_psh (.int 0) 2) := sd_iconst dX8_board_1 (by decide) rfl
theorem r236_2 : Sd gd_mt M236 2 (i_putI 8 0 5) := sd_putI ck8 (by decide) rfl (.inl q1454) (.inl rfl) dX8_board_2 rfl
theorem r236_5 : Sd gd_mt M236 5 (i_ald 0 6) := sd_aload_n dX8_board_5 rfl rfl
theorem r236_6 : Sd gd_mt M236 6 (i_ild 1 7) := sd_iload_n dX8_board_6 rfl rfl
theorem r236_7 : Sd gd_mt M236 7 (i_psh (.int 1) 8) := sd_iconst dX8_board_7 (by decide) rfl
theorem r236_8 : Sd gd_mt M236 8 (i_cV 237 2 8 11) := sd_cV2 e237 cal237 q1868 q1870 (rfl : gd_cl 8 = some _) qs71 dX8_board_8 rfl
theorem r236_11 : Sd gd_mt M236 11 (i_msk [true, true, true, false, false] (i_ifeq 29 14)) := sd_msk _ (sd_ifeq dX8_board_11 (by decide) rfl)
theorem r236_14 : Sd gd_mt M236 14 (i_ald 0 15) := sd_aload_n dX8_board_14 rfl rfl
theorem r236_15 : Sd gd_mt M236 15 (i_ild 2 16) := sd_iload_n dX8_board_15 rfl rfl
theorem r236_16 : Sd gd_mt M236 16 (i_psh (.int 0) 17) := sd_iconst dX8_board_16 (by decide) rfl
theorem r236_17 : Sd gd_mt M236 17 (i_psh (.int 4) 18) := sd_iconst dX8_board_17 (by decide) rfl
theorem r236_18 : Sd gd_mt M236 18 (i_cS 233 3 21) := sd_cS2 e233 cal233 q1853 q1854 dX8_board_18 rfl
theorem r236_21 : Sd gd_mt M236 21 (i_msk [true, true, true, false, false] (i_psh (.int 2) 22)) := sd_msk _ (sd_iconst dX8_board_21 (by decide) rfl)
theorem r236_22 : Sd gd_mt M236 22 (i_psh (.int 1) 23) := sd_iconst dX8_board_22 (by decide) rfl
theorem r236_23 : Sd gd_mt M236 23 (i_cV 183 3 8 26) := sd_cV2 e183 cal183 q1639 q1641 (rfl : gd_cl 8 = some _) qs30 dX8_board_23 rfl
theorem r236_26 : Sd gd_mt M236 26 (i_msk [true, true, true, false, false] (i_ifne 31 29)) := sd_msk _ (sd_ifne dX8_board_26 (by decide) rfl)
theorem r236_29 : Sd gd_mt M236 29 (i_msk [false, false, false, false, false] (i_psh (.int 0) 30)) := sd_msk _ (sd_iconst dX8_board_29 (by decide) rfl)
theorem r236_30 : Sd gd_mt M236 30 (i_iret) := sd_iret rfl dX8_board_30
theorem r236_31 : Sd gd_mt M236 31 (i_ald 0 32) := sd_aload_n dX8_board_31 rfl rfl
theorem r236_32 : Sd gd_mt M236 32 (i_cV 211 0 8 35) := sd_cV2 e211 cal211 q1767 q1769 (rfl : gd_cl 8 = some _) qs52 dX8_board_32 rfl
theorem r236_35 : Sd gd_mt M236 35 (i_msk [true, true, true, false, false] (i_ild 2 36)) := sd_msk _ (sd_iload_n dX8_board_35 rfl rfl)
theorem r236_36 : Sd gd_mt M236 36 (i_psh (.int 2) 37) := sd_iconst dX8_board_36 (by decide) rfl
theorem r236_37 : Sd gd_mt M236 37 (i_icge 51 40) := sd_icge dX8_board_37 (by decide) rfl
theorem r236_40 : Sd gd_mt M236 40 (i_ald 0 41) := sd_aload_n dX8_board_40 rfl rfl
theorem r236_41 : Sd gd_mt M236 41 (i_getR 8 14 44) := sd_getR ck8 (by decide) rfl (.inl q1468) dX8_board_41 rfl
theorem r236_44 : Sd gd_mt M236 44 (i_psh (.int 2) 45) := sd_iconst dX8_board_44 (by decide) rfl
theorem r236_45 : Sd gd_mt M236 45 (i_ild 1 46) := sd_iload_n dX8_board_45 rfl rfl
theorem r236_46 : Sd gd_mt M236 46 (i_imul 47) := sd_imul dX8_board_46 rfl
theorem r236_47 : Sd gd_mt M236 47 (i_ild 2 48) := sd_iload_n dX8_board_47 rfl rfl
theorem r236_48 : Sd gd_mt M236 48 (i_iadd 49) := sd_iadd dX8_board_48 rfl
theorem r236_49 : Sd gd_mt M236 49 (i_aldI 31 50) := sd_iald dX8_board_49 rfl
theorem r236_50 : Sd gd_mt M236 50 (i_iret) := sd_iret rfl dX8_board_50
theorem r236_51 : Sd gd_mt M236 51 (i_ild 2 52) := sd_iload_n dX8_board_51 rfl rfl
theorem r236_52 : Sd gd_mt M236 52 (i_psh (.int 4) 53) := sd_iconst dX8_board_52 (by decide) rfl
theorem r236_53 : Sd gd_mt M236 53 (i_icge 79 56) := sd_icge dX8_board_53 (by decide) rfl
theorem r236_56 : Sd gd_mt M236 56 (i_ild 2 57) := sd_iload_n dX8_board_56 rfl rfl
theorem r236_57 : Sd gd_mt M236 57 (i_psh (.int 2) 58) := sd_iconst dX8_board_57 (by decide) rfl
theorem r236_58 : Sd gd_mt M236 58 (i_icne 73 61) := sd_icne dX8_board_58 (by decide) rfl
theorem r236_61 : Sd gd_mt M236 61 (i_ald 0 62) := sd_aload_n dX8_board_61 rfl rfl
theorem r236_62 : Sd gd_mt M236 62 (i_getR 8 39 65) := sd_getR ck8 (by decide) rfl (.inl q1493) dX8_board_62 rfl
theorem r236_65 : Sd gd_mt M236 65 (i_psh (.int 42) 67) := sd_bipush dX8_board_65 (by decide) rfl
theorem r236_67 : Sd gd_mt M236 67 (i_ild 1 68) := sd_iload_n dX8_board_67 rfl rfl
theorem r236_68 : Sd gd_mt M236 68 (i_iadd 69) := sd_iadd dX8_board_68 rfl
theorem r236_69 : Sd gd_mt M236 69 (i_aldI 31 70) := sd_iald dX8_board_69 rfl
theorem r236_70 : Sd gd_mt M236 70 (i_goto 78) := sd_goto dX8_board_70 (by decide)
theorem r236_73 : Sd gd_mt M236 73 (i_ald 0 74) := sd_aload_n dX8_board_73 rfl rfl
theorem r236_74 : Sd gd_mt M236 74 (i_ild 1 75) := sd_iload_n dX8_board_74 rfl rfl
def cl236_0 : List (Nat × gd_I) := [(0, i_ald 0 1), (1, i_psh (.int 0) 2), (2, i_putI 8 0 5), (5, i_ald 0 6), (6, i_ild 1 7), (7, i_psh (.int 1) 8), (8, i_cV 237 2 8 11), (11, i_msk [true, true, true, false, false] (i_ifeq 29 14)), (14, i_ald 0 15), (15, i_ild 2 16), (16, i_psh (.int 0) 17), (17, i_psh (.int 4) 18), (18, i_cS 233 3 21), (21, i_msk [true, true, true, false, false] (i_psh (.int 2) 22)), (22, i_psh (.int 1) 23), (23, i_cV 183 3 8 26), (26, i_msk [true, true, true, false, false] (i_ifne 31 29)), (29, i_msk [false, false, false, false, false] (i_psh (.int 0) 30)), (30, i_iret), (31, i_ald 0 32), (32, i_cV 211 0 8 35), (35, i_msk [true, true, true, false, false] (i_ild 2 36)), (36, i_psh (.int 2) 37), (37, i_icge 51 40), (40, i_ald 0 41), (41, i_getR 8 14 44), (44, i_psh (.int 2) 45), (45, i_ild 1 46), (46, i_imul 47), (47, i_ild 2 48), (48, i_iadd 49), (49, i_aldI 31 50), (50, i_iret), (51, i_ild 2 52), (52, i_psh (.int 4) 53), (53, i_icge 79 56), (56, i_ild 2 57), (57, i_psh (.int 2) 58), (58, i_icne 73 61), (61, i_ald 0 62), (62, i_getR 8 39 65), (65, i_psh (.int 42) 67), (67, i_ild 1 68), (68, i_iadd 69), (69, i_aldI 31 70), (70, i_goto 78), (73, i_ald 0 74), (74, i_ild 1 75)]
theorem cs236_0 : ∀ q ∈ cl236_0, Sd gd_mt M236 q.1 q.2 := gd_ac r236_0 (gd_ac r236_1 (gd_ac r236_2 (gd_ac r236_5 (gd_ac r236_6 (gd_ac r236_7 (gd_ac r236_8 (gd_ac r236_11 (gd_ac r236_14 (gd_ac r236_15 (gd_ac r236_16 (gd_ac r236_17 (gd_ac r236_18 (gd_ac r236_21 (gd_ac r236_22 (gd_ac r236_23 (gd_ac r236_26 (gd_ac r236_29 (gd_ac r236_30 (gd_ac r236_31 (gd_ac r236_32 (gd_ac r236_35 (gd_ac r236_36 (gd_ac r236_37 (gd_ac r236_40 (gd_ac r236_41 (gd_ac r236_44 (gd_ac r236_45 (gd_ac r236_46 (gd_ac r236_47 (gd_ac r236_48 (gd_ac r236_49 (gd_ac r236_50 (gd_ac r236_51 (gd_ac r236_52 (gd_ac r236_53 (gd_ac r236_56 (gd_ac r236_57 (gd_ac r236_58 (gd_ac r236_61 (gd_ac r236_62 (gd_ac r236_65 (gd_ac r236_67 (gd_ac r236_68 (gd_ac r236_69 (gd_ac r236_70 (gd_ac r236_73 (gd_ac r236_74 (gd_an))))))))))))))))))))))))))))))))))))))))))))))))
theorem r236_75 : Sd gd_mt M236 75 (i_cV 216 1 8 78) := sd_cV2 e216 cal216 q1787 q1789 (rfl : gd_cl 8 = some _) qs57 dX8_board_75 rfl
theorem r236_78 : Sd gd_mt M236 78 (i_msk [false, false, false, false, false] (i_iret)) := sd_msk _ (sd_iret rfl dX8_board_78)
theorem r236_79 : Sd gd_mt M236 79 (i_psh (.int 0) 80) := sd_iconst dX8_board_79 (by decide) rfl
theorem r236_80 : Sd gd_mt M236 80 (i_ist 3 81) := sd_istore_n dX8_board_80 rfl (by decide) rfl
theorem r236_81 : Sd gd_mt M236 81 (i_psh (.int 0) 82) := sd_iconst dX8_board_81 (by decide) rfl
theorem r236_82 : Sd gd_mt M236 82 (i_ist 4 84) := sd_istore dX8_board_82 (by decide) rfl
theorem r236_84 : Sd gd_mt M236 84 (i_msk [true, true, false, true, true] (i_ild 4 86)) := sd_msk _ (sd_iload dX8_board_84 rfl)
theorem r236_86 : Sd gd_mt M236 86 (i_ald 0 87) := sd_aload_n dX8_board_86 rfl rfl
theorem r236_87 : Sd gd_mt M236 87 (i_getI 8 21 90) := sd_getI ck8 (by decide) rfl (.inl q1475) dX8_board_87 rfl
theorem r236_90 : Sd gd_mt M236 90 (i_icge 124 93) := sd_icge dX8_board_90 (by decide) rfl
theorem r236_93 : Sd gd_mt M236 93 (i_ild 3 94) := sd_iload_n dX8_board_93 rfl rfl
theorem r236_94 : Sd gd_mt M236 94 (i_ald 0 95) := sd_aload_n dX8_board_94 rfl rfl
theorem r236_95 : Sd gd_mt M236 95 (i_getR 8 39 98) := sd_getR ck8 (by decide) rfl (.inl q1493) dX8_board_95 rfl
theorem r236_98 : Sd gd_mt M236 98 (i_psh (.int 14) 100) := sd_bipush dX8_board_98 (by decide) rfl
theorem r236_100 : Sd gd_mt M236 100 (i_ild 4 102) := sd_iload dX8_board_100 rfl
theorem r236_102 : Sd gd_mt M236 102 (i_iadd 103) := sd_iadd dX8_board_102 rfl
theorem r236_103 : Sd gd_mt M236 103 (i_aldI 31 104) := sd_iald dX8_board_103 rfl
theorem r236_104 : Sd gd_mt M236 104 (i_ild 1 105) := sd_iload_n dX8_board_104 rfl rfl
theorem r236_105 : Sd gd_mt M236 105 (i_icne 115 108) := sd_icne dX8_board_105 (by decide) rfl
theorem r236_108 : Sd gd_mt M236 108 (i_psh (.int 1) 109) := sd_iconst dX8_board_108 (by decide) rfl
theorem r236_109 : Sd gd_mt M236 109 (i_ild 4 111) := sd_iload dX8_board_109 rfl
theorem r236_111 : Sd gd_mt M236 111 (i_ishl 112) := sd_ishl dX8_board_111 rfl
theorem r236_112 : Sd gd_mt M236 112 (i_goto 116) := sd_goto dX8_board_112 (by decide)
theorem r236_115 : Sd gd_mt M236 115 (i_psh (.int 0) 116) := sd_iconst dX8_board_115 (by decide) rfl
theorem r236_116 : Sd gd_mt M236 116 (i_msk [true, true, false, false, true] (i_ior 117)) := sd_msk _ (sd_ior dX8_board_116 rfl)
theorem r236_117 : Sd gd_mt M236 117 (i_ist 3 118) := sd_istore_n dX8_board_117 rfl (by decide) rfl
theorem r236_118 : Sd gd_mt M236 118 (i_inc 4 1 121) := sd_iinc dX8_board_118 (by decide) (by decide) rfl
theorem r236_121 : Sd gd_mt M236 121 (i_goto 84) := sd_goto dX8_board_121 (by decide)
theorem r236_124 : Sd gd_mt M236 124 (i_ild 3 125) := sd_iload_n dX8_board_124 rfl rfl
theorem r236_125 : Sd gd_mt M236 125 (i_iret) := sd_iret rfl dX8_board_125
def cl236_1 : List (Nat × gd_I) := [(75, i_cV 216 1 8 78), (78, i_msk [false, false, false, false, false] (i_iret)), (79, i_psh (.int 0) 80), (80, i_ist 3 81), (81, i_psh (.int 0) 82), (82, i_ist 4 84), (84, i_msk [true, true, false, true, true] (i_ild 4 86)), (86, i_ald 0 87), (87, i_getI 8 21 90), (90, i_icge 124 93), (93, i_ild 3 94), (94, i_ald 0 95), (95, i_getR 8 39 98), (98, i_psh (.int 14) 100), (100, i_ild 4 102), (102, i_iadd 103), (103, i_aldI 31 104), (104, i_ild 1 105), (105, i_icne 115 108), (108, i_psh (.int 1) 109), (109, i_ild 4 111), (111, i_ishl 112), (112, i_goto 116), (115, i_psh (.int 0) 116), (116, i_msk [true, true, false, false, true] (i_ior 117)), (117, i_ist 3 118), (118, i_inc 4 1 121), (121, i_goto 84), (124, i_ild 3 125), (125, i_iret)]
theorem cs236_1 : ∀ q ∈ cl236_1, Sd gd_mt M236 q.1 q.2 := gd_ac r236_75 (gd_ac r236_78 (gd_ac r236_79 (gd_ac r236_80 (gd_ac r236_81 (gd_ac r236_82 (gd_ac r236_84 (gd_ac r236_86 (gd_ac r236_87 (gd_ac r236_90 (gd_ac r236_93 (gd_ac r236_94 (gd_ac r236_95 (gd_ac r236_98 (gd_ac r236_100 (gd_ac r236_102 (gd_ac r236_103 (gd_ac r236_104 (gd_ac r236_105 (gd_ac r236_108 (gd_ac r236_109 (gd_ac r236_111 (gd_ac r236_112 (gd_ac r236_115 (gd_ac r236_116 (gd_ac r236_117 (gd_ac r236_118 (gd_ac r236_121 (gd_ac r236_124 (gd_ac r236_125 (gd_an))))))))))))))))))))))))))))))
def cd236 (pc : Nat) : gd_I := if pc < 75 then lkI cl236_0 pc else lkI cl236_1 pc
theorem cg236 : ∀ pc, Sd gd_mt M236 pc (cd236 pc) := by
  intro pc
  unfold cd236
  by_cases h0 : pc < 75
  · rw [if_pos h0]; exact sd_lk cs236_0 pc
  rw [if_neg h0]
  exact sd_lk cs236_1 pc
theorem r237_0 : Sd gd_mt M237 0 (i_ald 0 1) := sd_aload_n dX8_isBoard_0 rfl rfl
theorem r237_1 : Sd gd_mt M237 1 (i_ild 1 2) := sd_iload_n dX8_isBoard_1 rfl rfl
theorem r237_2 : Sd gd_mt M237 2 (i_psh (.int 0) 3) := sd_iconst dX8_isBoard_2 (by decide) rfl
theorem r237_3 : Sd gd_mt M237 3 (i_ald 0 4) := sd_aload_n dX8_isBoard_3 rfl rfl
theorem r237_4 : Sd gd_mt M237 4 (i_getI 8 20 7) := sd_getI ck8 (by decide) rfl (.inl q1474) dX8_isBoard_4 rfl
theorem r237_7 : Sd gd_mt M237 7 (i_psh (.int 1) 8) := sd_iconst dX8_isBoard_7 (by decide) rfl
theorem r237_8 : Sd gd_mt M237 8 (i_isub 9) := sd_isub dX8_isBoard_8 rfl
theorem r237_9 : Sd gd_mt M237 9 (i_cS 233 3 12) := sd_cS2 e233 cal233 q1853 q1854 dX8_isBoard_9 rfl
theorem r237_12 : Sd gd_mt M237 12 (i_msk [false, false, true] (i_ild 2 13)) := sd_msk _ (sd_iload_n dX8_isBoard_12 rfl rfl)
theorem r237_13 : Sd gd_mt M237 13 (i_psh (.int 0) 14) := sd_iconst dX8_isBoard_13 (by decide) rfl
theorem r237_14 : Sd gd_mt M237 14 (i_cV 183 3 8 17) := sd_cV2 e183 cal183 q1639 q1641 (rfl : gd_cl 8 = some _) qs30 dX8_isBoard_14 rfl
theorem r237_17 : Sd gd_mt M237 17 (i_msk [false, false, false] (i_zret)) := sd_msk _ (sd_zret rfl dX8_isBoard_17)
def cl237_0 : List (Nat × gd_I) := [(0, i_ald 0 1), (1, i_ild 1 2), (2, i_psh (.int 0) 3), (3, i_ald 0 4), (4, i_getI 8 20 7), (7, i_psh (.int 1) 8), (8, i_isub 9), (9, i_cS 233 3 12), (12, i_msk [false, false, true] (i_ild 2 13)), (13, i_psh (.int 0) 14), (14, i_cV 183 3 8 17), (17, i_msk [false, false, false] (i_zret))]
theorem cs237_0 : ∀ q ∈ cl237_0, Sd gd_mt M237 q.1 q.2 := gd_ac r237_0 (gd_ac r237_1 (gd_ac r237_2 (gd_ac r237_3 (gd_ac r237_4 (gd_ac r237_7 (gd_ac r237_8 (gd_ac r237_9 (gd_ac r237_12 (gd_ac r237_13 (gd_ac r237_14 (gd_ac r237_17 (gd_an))))))))))))
def cd237 (pc : Nat) : gd_I := lkI cl237_0 pc
theorem cg237 : ∀ pc, Sd gd_mt M237 pc (cd237 pc) := sd_lk cs237_0
theorem r238_0 : Sd gd_mt M238 0 (i_ald 0 1) := sd_aload_n dX8_boy_0 rfl rfl
theorem r238_1 : Sd gd_mt M238 1 (i_psh (.int 0) 2) := sd_iconst dX8_boy_1 (by decide) rfl
theorem r238_2 : Sd gd_mt M238 2 (i_putI 8 0 5) := sd_putI ck8 (by decide) rfl (.inl q1454) (.inl rfl) dX8_boy_2 rfl
theorem r238_5 : Sd gd_mt M238 5 (i_ald 0 6) := sd_aload_n dX8_boy_5 rfl rfl
theorem r238_6 : Sd gd_mt M238 6 (i_ild 1 7) := sd_iload_n dX8_boy_6 rfl rfl
theorem r238_7 : Sd gd_mt M238 7 (i_psh (.int 1) 8) := sd_iconst dX8_boy_7 (by decide) rfl
theorem r238_8 : Sd gd_mt M238 8 (i_cV 239 2 8 11) := sd_cV2 e239 cal239 q1876 q1878 (rfl : gd_cl 8 = some _) qs72 dX8_boy_8 rfl
theorem r238_11 : Sd gd_mt M238 11 (i_msk [true, true, true] (i_ifeq 30 14)) := sd_msk _ (sd_ifeq dX8_boy_11 (by decide) rfl)
theorem r238_14 : Sd gd_mt M238 14 (i_ald 0 15) := sd_aload_n dX8_boy_14 rfl rfl
theorem r238_15 : Sd gd_mt M238 15 (i_ild 2 16) := sd_iload_n dX8_boy_15 rfl rfl
theorem r238_16 : Sd gd_mt M238 16 (i_psh (.int 0) 17) := sd_iconst dX8_boy_16 (by decide) rfl
theorem r238_17 : Sd gd_mt M238 17 (i_psh (.int 7) 19) := sd_bipush dX8_boy_17 (by decide) rfl
theorem r238_19 : Sd gd_mt M238 19 (i_cS 233 3 22) := sd_cS2 e233 cal233 q1853 q1854 dX8_boy_19 rfl
theorem r238_22 : Sd gd_mt M238 22 (i_msk [true, true, true] (i_psh (.int 2) 23)) := sd_msk _ (sd_iconst dX8_boy_22 (by decide) rfl)
theorem r238_23 : Sd gd_mt M238 23 (i_psh (.int 1) 24) := sd_iconst dX8_boy_23 (by decide) rfl
theorem r238_24 : Sd gd_mt M238 24 (i_cV 183 3 8 27) := sd_cV2 e183 cal183 q1639 q1641 (rfl : gd_cl 8 = some _) qs30 dX8_boy_24 rfl
theorem r238_27 : Sd gd_mt M238 27 (i_msk [true, true, true] (i_ifne 32 30)) := sd_msk _ (sd_ifne dX8_boy_27 (by decide) rfl)
theorem r238_30 : Sd gd_mt M238 30 (i_msk [false, false, false] (i_psh (.int 0) 31)) := sd_msk _ (sd_iconst dX8_boy_30 (by decide) rfl)
theorem r238_31 : Sd gd_mt M238 31 (i_iret) := sd_iret rfl dX8_boy_31
theorem r238_32 : Sd gd_mt M238 32 (i_ald 0 33) := sd_aload_n dX8_boy_32 rfl rfl
theorem r238_33 : Sd gd_mt M238 33 (i_cV 211 0 8 36) := sd_cV2 e211 cal211 q1767 q1769 (rfl : gd_cl 8 = some _) qs52 dX8_boy_33 rfl
theorem r238_36 : Sd gd_mt M238 36 (i_msk [true, true, true] (i_ild 2 37)) := sd_msk _ (sd_iload_n dX8_boy_36 rfl rfl)
theorem r238_37 : Sd gd_mt M238 37 (i_psh (.int 3) 38) := sd_iconst dX8_boy_37 (by decide) rfl
theorem r238_38 : Sd gd_mt M238 38 (i_iceq 46 41) := sd_iceq dX8_boy_38 (by decide) rfl
theorem r238_41 : Sd gd_mt M238 41 (i_ild 2 42) := sd_iload_n dX8_boy_41 rfl rfl
theorem r238_42 : Sd gd_mt M238 42 (i_psh (.int 4) 43) := sd_iconst dX8_boy_42 (by decide) rfl
theorem r238_43 : Sd gd_mt M238 43 (i_icne 65 46) := sd_icne dX8_boy_43 (by decide) rfl
theorem r238_46 : Sd gd_mt M238 46 (i_msk [true, true, true] (i_ild 2 47)) := sd_msk _ (sd_iload_n dX8_boy_46 rfl rfl)
theorem r238_47 : Sd gd_mt M238 47 (i_psh (.int 3) 48) := sd_iconst dX8_boy_47 (by decide) rfl
theorem r238_48 : Sd gd_mt M238 48 (i_icne 59 51) := sd_icne dX8_boy_48 (by decide) rfl
theorem r238_51 : Sd gd_mt M238 51 (i_ald 0 52) := sd_aload_n dX8_boy_51 rfl rfl
theorem r238_52 : Sd gd_mt M238 52 (i_ild 1 53) := sd_iload_n dX8_boy_52 rfl rfl
theorem r238_53 : Sd gd_mt M238 53 (i_cV 223 1 8 56) := sd_cV2 e223 cal223 q1815 q1817 (rfl : gd_cl 8 = some _) qs64 dX8_boy_53 rfl
theorem r238_56 : Sd gd_mt M238 56 (i_msk [false, false, false] (i_goto 64)) := sd_msk _ (sd_goto dX8_boy_56 (by decide))
theorem r238_59 : Sd gd_mt M238 59 (i_ald 0 60) := sd_aload_n dX8_boy_59 rfl rfl
theorem r238_60 : Sd gd_mt M238 60 (i_ild 1 61) := sd_iload_n dX8_boy_60 rfl rfl
theorem r238_61 : Sd gd_mt M238 61 (i_cV 222 1 8 64) := sd_cV2 e222 cal222 q1811 q1813 (rfl : gd_cl 8 = some _) qs63 dX8_boy_61 rfl
theorem r238_64 : Sd gd_mt M238 64 (i_msk [false, false, false] (i_iret)) := sd_msk _ (sd_iret rfl dX8_boy_64)
theorem r238_65 : Sd gd_mt M238 65 (i_ild 2 66) := sd_iload_n dX8_boy_65 rfl rfl
theorem r238_66 : Sd gd_mt M238 66 (i_psh (.int 6) 68) := sd_bipush dX8_boy_66 (by decide) rfl
theorem r238_68 : Sd gd_mt M238 68 (i_icne 80 71) := sd_icne dX8_boy_68 (by decide) rfl
theorem r238_71 : Sd gd_mt M238 71 (i_ald 0 72) := sd_aload_n dX8_boy_71 rfl rfl
theorem r238_72 : Sd gd_mt M238 72 (i_getR 8 16 75) := sd_getR ck8 (by decide) rfl (.inl q1470) dX8_boy_72 rfl
theorem r238_75 : Sd gd_mt M238 75 (i_ild 1 76) := sd_iload_n dX8_boy_75 rfl rfl
theorem r238_76 : Sd gd_mt M238 76 (i_aldI 31 77) := sd_iald dX8_boy_76 rfl
theorem r238_77 : Sd gd_mt M238 77 (i_goto 127) := sd_goto dX8_boy_77 (by decide)
theorem r238_80 : Sd gd_mt M238 80 (i_ald 0 81) := sd_aload_n dX8_boy_80 rfl rfl
theorem r238_81 : Sd gd_mt M238 81 (i_getR 8 39 84) := sd_getR ck8 (by decide) rfl (.inl q1493) dX8_boy_81 rfl
def cl238_0 : List (Nat × gd_I) := [(0, i_ald 0 1), (1, i_psh (.int 0) 2), (2, i_putI 8 0 5), (5, i_ald 0 6), (6, i_ild 1 7), (7, i_psh (.int 1) 8), (8, i_cV 239 2 8 11), (11, i_msk [true, true, true] (i_ifeq 30 14)), (14, i_ald 0 15), (15, i_ild 2 16), (16, i_psh (.int 0) 17), (17, i_psh (.int 7) 19), (19, i_cS 233 3 22), (22, i_msk [true, true, true] (i_psh (.int 2) 23)), (23, i_psh (.int 1) 24), (24, i_cV 183 3 8 27), (27, i_msk [true, true, true] (i_ifne 32 30)), (30, i_msk [false, false, false] (i_psh (.int 0) 31)), (31, i_iret), (32, i_ald 0 33), (33, i_cV 211 0 8 36), (36, i_msk [true, true, true] (i_ild 2 37)), (37, i_psh (.int 3) 38), (38, i_iceq 46 41), (41, i_ild 2 42), (42, i_psh (.int 4) 43), (43, i_icne 65 46), (46, i_msk [true, true, true] (i_ild 2 47)), (47, i_psh (.int 3) 48), (48, i_icne 59 51), (51, i_ald 0 52), (52, i_ild 1 53), (53, i_cV 223 1 8 56), (56, i_msk [false, false, false] (i_goto 64)), (59, i_ald 0 60), (60, i_ild 1 61), (61, i_cV 222 1 8 64), (64, i_msk [false, false, false] (i_iret)), (65, i_ild 2 66), (66, i_psh (.int 6) 68), (68, i_icne 80 71), (71, i_ald 0 72), (72, i_getR 8 16 75), (75, i_ild 1 76), (76, i_aldI 31 77), (77, i_goto 127), (80, i_ald 0 81), (81, i_getR 8 39 84)]
theorem cs238_0 : ∀ q ∈ cl238_0, Sd gd_mt M238 q.1 q.2 := gd_ac r238_0 (gd_ac r238_1 (gd_ac r238_2 (gd_ac r238_5 (gd_ac r238_6 (gd_ac r238_7 (gd_ac r238_8 (gd_ac r238_11 (gd_ac r238_14 (gd_ac r238_15 (gd_ac r238_16 (gd_ac r238_17 (gd_ac r238_19 (gd_ac r238_22 (gd_ac r238_23 (gd_ac r238_24 (gd_ac r238_27 (gd_ac r238_30 (gd_ac r238_31 (gd_ac r238_32 (gd_ac r238_33 (gd_ac r238_36 (gd_ac r238_37 (gd_ac r238_38 (gd_ac r238_41 (gd_ac r238_42 (gd_ac r238_43 (gd_ac r238_46 (gd_ac r238_47 (gd_ac r238_48 (gd_ac r238_51 (gd_ac r238_52 (gd_ac r238_53 (gd_ac r238_56 (gd_ac r238_59 (gd_ac r238_60 (gd_ac r238_61 (gd_ac r238_64 (gd_ac r238_65 (gd_ac r238_66 (gd_ac r238_68 (gd_ac r238_71 (gd_ac r238_72 (gd_ac r238_75 (gd_ac r238_76 (gd_ac r238_77 (gd_ac r238_80 (gd_ac r238_81 (gd_an))))))))))))))))))))))))))))))))))))))))))))))))
theorem r238_84 : Sd gd_mt M238 84 (i_ild 2 85) := sd_iload_n dX8_boy_84 rfl rfl
theorem r238_85 : Sd gd_mt M238 85 (i_ifne 92 88) := sd_ifne dX8_boy_85 (by decide) rfl
theorem r238_88 : Sd gd_mt M238 88 (i_psh (.int 0) 89) := sd_iconst dX8_boy_88 (by decide) rfl
theorem r238_89 : Sd gd_mt M238 89 (i_goto 124) := sd_goto dX8_boy_89 (by decide)
theorem r238_92 : Sd gd_mt M238 92 (i_ild 2 93) := sd_iload_n dX8_boy_92 rfl rfl
theorem r238_93 : Sd gd_mt M238 93 (i_psh (.int 1) 94) := sd_iconst dX8_boy_93 (by decide) rfl
theorem r238_94 : Sd gd_mt M238 94 (i_icne 102 97) := sd_icne dX8_boy_94 (by decide) rfl
theorem r238_97 : Sd gd_mt M238 97 (i_psh (.int 7) 99) := sd_bipush dX8_boy_97 (by decide) rfl
theorem r238_99 : Sd gd_mt M238 99 (i_goto 124) := sd_goto dX8_boy_99 (by decide)
theorem r238_102 : Sd gd_mt M238 102 (i_ild 2 103) := sd_iload_n dX8_boy_102 rfl rfl
theorem r238_103 : Sd gd_mt M238 103 (i_psh (.int 2) 104) := sd_iconst dX8_boy_103 (by decide) rfl
theorem r238_104 : Sd gd_mt M238 104 (i_icne 112 107) := sd_icne dX8_boy_104 (by decide) rfl
theorem r238_107 : Sd gd_mt M238 107 (i_psh (.int 14) 109) := sd_bipush dX8_boy_107 (by decide) rfl
theorem r238_109 : Sd gd_mt M238 109 (i_goto 124) := sd_goto dX8_boy_109 (by decide)
theorem r238_112 : Sd gd_mt M238 112 (i_ild 2 113) := sd_iload_n dX8_boy_112 rfl rfl
theorem r238_113 : Sd gd_mt M238 113 (i_psh (.int 5) 114) := sd_iconst dX8_boy_113 (by decide) rfl
theorem r238_114 : Sd gd_mt M238 114 (i_icne 122 117) := sd_icne dX8_boy_114 (by decide) rfl
theorem r238_117 : Sd gd_mt M238 117 (i_psh (.int 35) 119) := sd_bipush dX8_boy_117 (by decide) rfl
theorem r238_119 : Sd gd_mt M238 119 (i_goto 124) := sd_goto dX8_boy_119 (by decide)
theorem r238_122 : Sd gd_mt M238 122 (i_psh (.int 28) 124) := sd_bipush dX8_boy_122 (by decide) rfl
theorem r238_124 : Sd gd_mt M238 124 (i_msk [false, true, false] (i_ild 1 125)) := sd_msk _ (sd_iload_n dX8_boy_124 rfl rfl)
theorem r238_125 : Sd gd_mt M238 125 (i_iadd 126) := sd_iadd dX8_boy_125 rfl
theorem r238_126 : Sd gd_mt M238 126 (i_aldI 31 127) := sd_iald dX8_boy_126 rfl
theorem r238_127 : Sd gd_mt M238 127 (i_msk [false, false, false] (i_iret)) := sd_msk _ (sd_iret rfl dX8_boy_127)
def cl238_1 : List (Nat × gd_I) := [(84, i_ild 2 85), (85, i_ifne 92 88), (88, i_psh (.int 0) 89), (89, i_goto 124), (92, i_ild 2 93), (93, i_psh (.int 1) 94), (94, i_icne 102 97), (97, i_psh (.int 7) 99), (99, i_goto 124), (102, i_ild 2 103), (103, i_psh (.int 2) 104), (104, i_icne 112 107), (107, i_psh (.int 14) 109), (109, i_goto 124), (112, i_ild 2 113), (113, i_psh (.int 5) 114), (114, i_icne 122 117), (117, i_psh (.int 35) 119), (119, i_goto 124), (122, i_psh (.int 28) 124), (124, i_msk [false, true, false] (i_ild 1 125)), (125, i_iadd 126), (126, i_aldI 31 127), (127, i_msk [false, false, false] (i_iret))]
theorem cs238_1 : ∀ q ∈ cl238_1, Sd gd_mt M238 q.1 q.2 := gd_ac r238_84 (gd_ac r238_85 (gd_ac r238_88 (gd_ac r238_89 (gd_ac r238_92 (gd_ac r238_93 (gd_ac r238_94 (gd_ac r238_97 (gd_ac r238_99 (gd_ac r238_102 (gd_ac r238_103 (gd_ac r238_104 (gd_ac r238_107 (gd_ac r238_109 (gd_ac r238_112 (gd_ac r238_113 (gd_ac r238_114 (gd_ac r238_117 (gd_ac r238_119 (gd_ac r238_122 (gd_ac r238_124 (gd_ac r238_125 (gd_ac r238_126 (gd_ac r238_127 (gd_an))))))))))))))))))))))))
def cd238 (pc : Nat) : gd_I := if pc < 84 then lkI cl238_0 pc else lkI cl238_1 pc
theorem cg238 : ∀ pc, Sd gd_mt M238 pc (cd238 pc) := by
  intro pc
  unfold cd238
  by_cases h0 : pc < 84
  · rw [if_pos h0]; exact sd_lk cs238_0 pc
  rw [if_neg h0]
  exact sd_lk cs238_1 pc
theorem r239_0 : Sd gd_mt M239 0 (i_ald 0 1) := sd_aload_n dX8_isBoy_0 rfl rfl
theorem r239_1 : Sd gd_mt M239 1 (i_ild 1 2) := sd_iload_n dX8_isBoy_1 rfl rfl
theorem r239_2 : Sd gd_mt M239 2 (i_psh (.int 0) 3) := sd_iconst dX8_isBoy_2 (by decide) rfl
theorem r239_3 : Sd gd_mt M239 3 (i_ald 0 4) := sd_aload_n dX8_isBoy_3 rfl rfl
theorem r239_4 : Sd gd_mt M239 4 (i_getI 8 21 7) := sd_getI ck8 (by decide) rfl (.inl q1475) dX8_isBoy_4 rfl
theorem r239_7 : Sd gd_mt M239 7 (i_psh (.int 1) 8) := sd_iconst dX8_isBoy_7 (by decide) rfl
theorem r239_8 : Sd gd_mt M239 8 (i_isub 9) := sd_isub dX8_isBoy_8 rfl
theorem r239_9 : Sd gd_mt M239 9 (i_cS 233 3 12) := sd_cS2 e233 cal233 q1853 q1854 dX8_isBoy_9 rfl
theorem r239_12 : Sd gd_mt M239 12 (i_msk [false, false, true] (i_ild 2 13)) := sd_msk _ (sd_iload_n dX8_isBoy_12 rfl rfl)
theorem r239_13 : Sd gd_mt M239 13 (i_psh (.int 0) 14) := sd_iconst dX8_isBoy_13 (by decide) rfl
theorem r239_14 : Sd gd_mt M239 14 (i_cV 183 3 8 17) := sd_cV2 e183 cal183 q1639 q1641 (rfl : gd_cl 8 = some _) qs30 dX8_isBoy_14 rfl
theorem r239_17 : Sd gd_mt M239 17 (i_msk [false, false, false] (i_zret)) := sd_msk _ (sd_zret rfl dX8_isBoy_17)
def cl239_0 : List (Nat × gd_I) := [(0, i_ald 0 1), (1, i_ild 1 2), (2, i_psh (.int 0) 3), (3, i_ald 0 4), (4, i_getI 8 21 7), (7, i_psh (.int 1) 8), (8, i_isub 9), (9, i_cS 233 3 12), (12, i_msk [false, false, true] (i_ild 2 13)), (13, i_psh (.int 0) 14), (14, i_cV 183 3 8 17), (17, i_msk [false, false, false] (i_zret))]
theorem cs239_0 : ∀ q ∈ cl239_0, Sd gd_mt M239 q.1 q.2 := gd_ac r239_0 (gd_ac r239_1 (gd_ac r239_2 (gd_ac r239_3 (gd_ac r239_4 (gd_ac r239_7 (gd_ac r239_8 (gd_ac r239_9 (gd_ac r239_12 (gd_ac r239_13 (gd_ac r239_14 (gd_ac r239_17 (gd_an))))))))))))
def cd239 (pc : Nat) : gd_I := lkI cl239_0 pc
theorem cg239 : ∀ pc, Sd gd_mt M239 pc (cd239 pc) := sd_lk cs239_0
theorem r240_0 : Sd gd_mt M240 0 (i_ald 0 1) := sd_aload_n dX8_grows_0 rfl rfl
theorem r240_1 : Sd gd_mt M240 1 (i_psh (.int 0) 2) := sd_iconst dX8_grows_1 (by decide) rfl
theorem r240_2 : Sd gd_mt M240 2 (i_putI 8 0 5) := sd_putI ck8 (by decide) rfl (.inl q1454) (.inl rfl) dX8_grows_2 rfl
theorem r240_5 : Sd gd_mt M240 5 (i_ald 0 6) := sd_aload_n dX8_grows_5 rfl rfl
theorem r240_6 : Sd gd_mt M240 6 (i_ild 1 7) := sd_iload_n dX8_grows_6 rfl rfl
theorem r240_7 : Sd gd_mt M240 7 (i_psh (.int 1) 8) := sd_iconst dX8_grows_7 (by decide) rfl
theorem r240_8 : Sd gd_mt M240 8 (i_cV 239 2 8 11) := sd_cV2 e239 cal239 q1876 q1878 (rfl : gd_cl 8 = some _) qs72 dX8_grows_8 rfl
theorem r240_11 : Sd gd_mt M240 11 (i_msk [true, true] (i_ifne 16 14)) := sd_msk _ (sd_ifne dX8_grows_11 (by decide) rfl)
theorem r240_14 : Sd gd_mt M240 14 (i_psh (.int 0) 15) := sd_iconst dX8_grows_14 (by decide) rfl
theorem r240_15 : Sd gd_mt M240 15 (i_iret) := sd_iret rfl dX8_grows_15
theorem r240_16 : Sd gd_mt M240 16 (i_ald 0 17) := sd_aload_n dX8_grows_16 rfl rfl
theorem r240_17 : Sd gd_mt M240 17 (i_cV 211 0 8 20) := sd_cV2 e211 cal211 q1767 q1769 (rfl : gd_cl 8 = some _) qs52 dX8_grows_17 rfl
theorem r240_20 : Sd gd_mt M240 20 (i_msk [true, true] (i_ald 0 21)) := sd_msk _ (sd_aload_n dX8_grows_20 rfl rfl)
theorem r240_21 : Sd gd_mt M240 21 (i_ild 1 22) := sd_iload_n dX8_grows_21 rfl rfl
theorem r240_22 : Sd gd_mt M240 22 (i_cV 220 1 8 25) := sd_cV2 e220 cal220 q1803 q1805 (rfl : gd_cl 8 = some _) qs61 dX8_grows_22 rfl
theorem r240_25 : Sd gd_mt M240 25 (i_msk [false, false] (i_iret)) := sd_msk _ (sd_iret rfl dX8_grows_25)
def cl240_0 : List (Nat × gd_I) := [(0, i_ald 0 1), (1, i_psh (.int 0) 2), (2, i_putI 8 0 5), (5, i_ald 0 6), (6, i_ild 1 7), (7, i_psh (.int 1) 8), (8, i_cV 239 2 8 11), (11, i_msk [true, true] (i_ifne 16 14)), (14, i_psh (.int 0) 15), (15, i_iret), (16, i_ald 0 17), (17, i_cV 211 0 8 20), (20, i_msk [true, true] (i_ald 0 21)), (21, i_ild 1 22), (22, i_cV 220 1 8 25), (25, i_msk [false, false] (i_iret))]
theorem cs240_0 : ∀ q ∈ cl240_0, Sd gd_mt M240 q.1 q.2 := gd_ac r240_0 (gd_ac r240_1 (gd_ac r240_2 (gd_ac r240_5 (gd_ac r240_6 (gd_ac r240_7 (gd_ac r240_8 (gd_ac r240_11 (gd_ac r240_14 (gd_ac r240_15 (gd_ac r240_16 (gd_ac r240_17 (gd_ac r240_20 (gd_ac r240_21 (gd_ac r240_22 (gd_ac r240_25 (gd_an))))))))))))))))
def cd240 (pc : Nat) : gd_I := lkI cl240_0 pc
theorem cg240 : ∀ pc, Sd gd_mt M240 pc (cd240 pc) := sd_lk cs240_0
theorem r241_0 : Sd gd_mt M241 0 (i_ald 0 1) := sd_aload_n dX8_would_0 rfl rfl
theorem r241_1 : Sd gd_mt M241 1 (i_psh (.int 0) 2) := sd_iconst dX8_would_1 (by decide) rfl
theorem r241_2 : Sd gd_mt M241 2 (i_putI 8 0 5) := sd_putI ck8 (by decide) rfl (.inl q1454) (.inl rfl) dX8_would_2 rfl
theorem r241_5 : Sd gd_mt M241 5 (i_ald 0 6) := sd_aload_n dX8_would_5 rfl rfl
theorem r241_6 : Sd gd_mt M241 6 (i_ild 1 7) := sd_iload_n dX8_would_6 rfl rfl
theorem r241_7 : Sd gd_mt M241 7 (i_psh (.int 0) 8) := sd_iconst dX8_would_7 (by decide) rfl
theorem r241_8 : Sd gd_mt M241 8 (i_psh (.int 9) 10) := sd_bipush dX8_would_8 (by decide) rfl
theorem r241_10 : Sd gd_mt M241 10 (i_cS 233 3 13) := sd_cS2 e233 cal233 q1853 q1854 dX8_would_10 rfl
theorem r241_13 : Sd gd_mt M241 13 (i_msk [true, true, true, true, true, true, true, true, true] (i_ifeq 100 16)) := sd_msk _ (sd_ifeq dX8_would_13 (by decide) rfl)
theorem r241_16 : Sd gd_mt M241 16 (i_ild 2 17) := sd_iload_n dX8_would_16 rfl rfl
theorem r241_17 : Sd gd_mt M241 17 (i_psh (.int 1) 18) := sd_iconst dX8_would_17 (by decide) rfl
theorem r241_18 : Sd gd_mt M241 18 (i_psh (.int 999) 21) := sd_sipush dX8_would_18 (by decide) rfl
theorem r241_21 : Sd gd_mt M241 21 (i_cS 233 3 24) := sd_cS2 e233 cal233 q1853 q1854 dX8_would_21 rfl
theorem r241_24 : Sd gd_mt M241 24 (i_msk [true, true, true, true, true, true, true, true, true] (i_ifeq 100 27)) := sd_msk _ (sd_ifeq dX8_would_24 (by decide) rfl)
theorem r241_27 : Sd gd_mt M241 27 (i_ild 3 28) := sd_iload_n dX8_would_27 rfl rfl
theorem r241_28 : Sd gd_mt M241 28 (i_psh (.int 0) 29) := sd_iconst dX8_would_28 (by decide) rfl
theorem r241_29 : Sd gd_mt M241 29 (i_psh (.int 6) 31) := sd_bipush dX8_would_29 (by decide) rfl
theorem r241_31 : Sd gd_mt M241 31 (i_cS 233 3 34) := sd_cS2 e233 cal233 q1853 q1854 dX8_would_31 rfl
theorem r241_34 : Sd gd_mt M241 34 (i_msk [true, true, true, true, true, true, true, true, true] (i_ifeq 100 37)) := sd_msk _ (sd_ifeq dX8_would_34 (by decide) rfl)
theorem r241_37 : Sd gd_mt M241 37 (i_ild 4 39) := sd_iload dX8_would_37 rfl
theorem r241_39 : Sd gd_mt M241 39 (i_psh (.int 0) 40) := sd_iconst dX8_would_39 (by decide) rfl
theorem r241_40 : Sd gd_mt M241 40 (i_psh (.int 9) 42) := sd_bipush dX8_would_40 (by decide) rfl
theorem r241_42 : Sd gd_mt M241 42 (i_cS 233 3 45) := sd_cS2 e233 cal233 q1853 q1854 dX8_would_42 rfl
theorem r241_45 : Sd gd_mt M241 45 (i_msk [true, true, true, true, true, true, true, true, true] (i_ifeq 100 48)) := sd_msk _ (sd_ifeq dX8_would_45 (by decide) rfl)
theorem r241_48 : Sd gd_mt M241 48 (i_ild 5 50) := sd_iload dX8_would_48 rfl
theorem r241_50 : Sd gd_mt M241 50 (i_psh (.int (-999)) 53) := sd_sipush dX8_would_50 (by decide) rfl
theorem r241_53 : Sd gd_mt M241 53 (i_psh (.int 999) 56) := sd_sipush dX8_would_53 (by decide) rfl
theorem r241_56 : Sd gd_mt M241 56 (i_cS 233 3 59) := sd_cS2 e233 cal233 q1853 q1854 dX8_would_56 rfl
theorem r241_59 : Sd gd_mt M241 59 (i_msk [true, true, true, true, true, true, true, true, true] (i_ifeq 100 62)) := sd_msk _ (sd_ifeq dX8_would_59 (by decide) rfl)
theorem r241_62 : Sd gd_mt M241 62 (i_ild 6 64) := sd_iload dX8_would_62 rfl
theorem r241_64 : Sd gd_mt M241 64 (i_psh (.int 0) 65) := sd_iconst dX8_would_64 (by decide) rfl
theorem r241_65 : Sd gd_mt M241 65 (i_psh (.int 11) 67) := sd_bipush dX8_would_65 (by decide) rfl
theorem r241_67 : Sd gd_mt M241 67 (i_cS 233 3 70) := sd_cS2 e233 cal233 q1853 q1854 dX8_would_67 rfl
theorem r241_70 : Sd gd_mt M241 70 (i_msk [true, true, true, true, true, true, true, true, true] (i_ifeq 100 73)) := sd_msk _ (sd_ifeq dX8_would_70 (by decide) rfl)
theorem r241_73 : Sd gd_mt M241 73 (i_ild 7 75) := sd_iload dX8_would_73 rfl
theorem r241_75 : Sd gd_mt M241 75 (i_psh (.int 0) 76) := sd_iconst dX8_would_75 (by decide) rfl
theorem r241_76 : Sd gd_mt M241 76 (i_psh (.int 5994) 79) := sd_sipush dX8_would_76 (by decide) rfl
theorem r241_79 : Sd gd_mt M241 79 (i_cS 233 3 82) := sd_cS2 e233 cal233 q1853 q1854 dX8_would_79 rfl
theorem r241_82 : Sd gd_mt M241 82 (i_msk [true, true, true, true, true, true, true, true, true] (i_ifeq 100 85)) := sd_msk _ (sd_ifeq dX8_would_82 (by decide) rfl)
theorem r241_85 : Sd gd_mt M241 85 (i_ild 8 87) := sd_iload dX8_would_85 rfl
theorem r241_87 : Sd gd_mt M241 87 (i_psh (.int 0) 88) := sd_iconst dX8_would_87 (by decide) rfl
theorem r241_88 : Sd gd_mt M241 88 (i_psh (.int 6) 90) := sd_bipush dX8_would_88 (by decide) rfl
theorem r241_90 : Sd gd_mt M241 90 (i_cS 233 3 93) := sd_cS2 e233 cal233 q1853 q1854 dX8_would_90 rfl
theorem r241_93 : Sd gd_mt M241 93 (i_msk [true, true, true, true, true, true, true, true, true] (i_ifeq 100 96)) := sd_msk _ (sd_ifeq dX8_would_93 (by decide) rfl)
theorem r241_96 : Sd gd_mt M241 96 (i_psh (.int 1) 97) := sd_iconst dX8_would_96 (by decide) rfl
theorem r241_97 : Sd gd_mt M241 97 (i_goto 101) := sd_goto dX8_would_97 (by decide)
theorem r241_100 : Sd gd_mt M241 100 (i_msk [true, true, true, true, true, true, true, true, true] (i_psh (.int 0) 101)) := sd_msk _ (sd_iconst dX8_would_100 (by decide) rfl)
theorem r241_101 : Sd gd_mt M241 101 (i_msk [true, true, true, true, true, true, true, true, true] (i_psh (.int 1) 102)) := sd_msk _ (sd_iconst dX8_would_101 (by decide) rfl)
def cl241_0 : List (Nat × gd_I) := [(0, i_ald 0 1), (1, i_psh (.int 0) 2), (2, i_putI 8 0 5), (5, i_ald 0 6), (6, i_ild 1 7), (7, i_psh (.int 0) 8), (8, i_psh (.int 9) 10), (10, i_cS 233 3 13), (13, i_msk [true, true, true, true, true, true, true, true, true] (i_ifeq 100 16)), (16, i_ild 2 17), (17, i_psh (.int 1) 18), (18, i_psh (.int 999) 21), (21, i_cS 233 3 24), (24, i_msk [true, true, true, true, true, true, true, true, true] (i_ifeq 100 27)), (27, i_ild 3 28), (28, i_psh (.int 0) 29), (29, i_psh (.int 6) 31), (31, i_cS 233 3 34), (34, i_msk [true, true, true, true, true, true, true, true, true] (i_ifeq 100 37)), (37, i_ild 4 39), (39, i_psh (.int 0) 40), (40, i_psh (.int 9) 42), (42, i_cS 233 3 45), (45, i_msk [true, true, true, true, true, true, true, true, true] (i_ifeq 100 48)), (48, i_ild 5 50), (50, i_psh (.int (-999)) 53), (53, i_psh (.int 999) 56), (56, i_cS 233 3 59), (59, i_msk [true, true, true, true, true, true, true, true, true] (i_ifeq 100 62)), (62, i_ild 6 64), (64, i_psh (.int 0) 65), (65, i_psh (.int 11) 67), (67, i_cS 233 3 70), (70, i_msk [true, true, true, true, true, true, true, true, true] (i_ifeq 100 73)), (73, i_ild 7 75), (75, i_psh (.int 0) 76), (76, i_psh (.int 5994) 79), (79, i_cS 233 3 82), (82, i_msk [true, true, true, true, true, true, true, true, true] (i_ifeq 100 85)), (85, i_ild 8 87), (87, i_psh (.int 0) 88), (88, i_psh (.int 6) 90), (90, i_cS 233 3 93), (93, i_msk [true, true, true, true, true, true, true, true, true] (i_ifeq 100 96)), (96, i_psh (.int 1) 97), (97, i_goto 101), (100, i_msk [true, true, true, true, true, true, true, true, true] (i_psh (.int 0) 101)), (101, i_msk [true, true, true, true, true, true, true, true, true] (i_psh (.int 1) 102))]
theorem cs241_0 : ∀ q ∈ cl241_0, Sd gd_mt M241 q.1 q.2 := gd_ac r241_0 (gd_ac r241_1 (gd_ac r241_2 (gd_ac r241_5 (gd_ac r241_6 (gd_ac r241_7 (gd_ac r241_8 (gd_ac r241_10 (gd_ac r241_13 (gd_ac r241_16 (gd_ac r241_17 (gd_ac r241_18 (gd_ac r241_21 (gd_ac r241_24 (gd_ac r241_27 (gd_ac r241_28 (gd_ac r241_29 (gd_ac r241_31 (gd_ac r241_34 (gd_ac r241_37 (gd_ac r241_39 (gd_ac r241_40 (gd_ac r241_42 (gd_ac r241_45 (gd_ac r241_48 (gd_ac r241_50 (gd_ac r241_53 (gd_ac r241_56 (gd_ac r241_59 (gd_ac r241_62 (gd_ac r241_64 (gd_ac r241_65 (gd_ac r241_67 (gd_ac r241_70 (gd_ac r241_73 (gd_ac r241_75 (gd_ac r241_76 (gd_ac r241_79 (gd_ac r241_82 (gd_ac r241_85 (gd_ac r241_87 (gd_ac r241_88 (gd_ac r241_90 (gd_ac r241_93 (gd_ac r241_96 (gd_ac r241_97 (gd_ac r241_100 (gd_ac r241_101 (gd_an))))))))))))))))))))))))))))))))))))))))))))))))
theorem r241_102 : Sd gd_mt M241 102 (i_psh (.int 1) 103) := sd_iconst dX8_would_102 (by decide) rfl
theorem r241_103 : Sd gd_mt M241 103 (i_cV 183 3 8 106) := sd_cV2 e183 cal183 q1639 q1641 (rfl : gd_cl 8 = some _) qs30 dX8_would_103 rfl
theorem r241_106 : Sd gd_mt M241 106 (i_msk [true, true, true, true, true, true, true, true, true] (i_ifne 111 109)) := sd_msk _ (sd_ifne dX8_would_106 (by decide) rfl)
theorem r241_109 : Sd gd_mt M241 109 (i_psh (.int 0) 110) := sd_iconst dX8_would_109 (by decide) rfl
theorem r241_110 : Sd gd_mt M241 110 (i_iret) := sd_iret rfl dX8_would_110
theorem r241_111 : Sd gd_mt M241 111 (i_ald 0 112) := sd_aload_n dX8_would_111 rfl rfl
theorem r241_112 : Sd gd_mt M241 112 (i_ild 1 113) := sd_iload_n dX8_would_112 rfl rfl
theorem r241_113 : Sd gd_mt M241 113 (i_ild 2 114) := sd_iload_n dX8_would_113 rfl rfl
theorem r241_114 : Sd gd_mt M241 114 (i_ild 3 115) := sd_iload_n dX8_would_114 rfl rfl
theorem r241_115 : Sd gd_mt M241 115 (i_ild 4 117) := sd_iload dX8_would_115 rfl
theorem r241_117 : Sd gd_mt M241 117 (i_ild 5 119) := sd_iload dX8_would_117 rfl
theorem r241_119 : Sd gd_mt M241 119 (i_ild 6 121) := sd_iload dX8_would_119 rfl
theorem r241_121 : Sd gd_mt M241 121 (i_ild 7 123) := sd_iload dX8_would_121 rfl
theorem r241_123 : Sd gd_mt M241 123 (i_ild 8 125) := sd_iload dX8_would_123 rfl
theorem r241_125 : Sd gd_mt M241 125 (i_cV 224 8 8 128) := sd_cV2 e224 cal224 q1819 q1821 (rfl : gd_cl 8 = some _) qs65 dX8_would_125 rfl
theorem r241_128 : Sd gd_mt M241 128 (i_msk [false, false, false, false, false, false, false, false, false] (i_iret)) := sd_msk _ (sd_iret rfl dX8_would_128)
def cl241_1 : List (Nat × gd_I) := [(102, i_psh (.int 1) 103), (103, i_cV 183 3 8 106), (106, i_msk [true, true, true, true, true, true, true, true, true] (i_ifne 111 109)), (109, i_psh (.int 0) 110), (110, i_iret), (111, i_ald 0 112), (112, i_ild 1 113), (113, i_ild 2 114), (114, i_ild 3 115), (115, i_ild 4 117), (117, i_ild 5 119), (119, i_ild 6 121), (121, i_ild 7 123), (123, i_ild 8 125), (125, i_cV 224 8 8 128), (128, i_msk [false, false, false, false, false, false, false, false, false] (i_iret))]
theorem cs241_1 : ∀ q ∈ cl241_1, Sd gd_mt M241 q.1 q.2 := gd_ac r241_102 (gd_ac r241_103 (gd_ac r241_106 (gd_ac r241_109 (gd_ac r241_110 (gd_ac r241_111 (gd_ac r241_112 (gd_ac r241_113 (gd_ac r241_114 (gd_ac r241_115 (gd_ac r241_117 (gd_ac r241_119 (gd_ac r241_121 (gd_ac r241_123 (gd_ac r241_125 (gd_ac r241_128 (gd_an))))))))))))))))
def cd241 (pc : Nat) : gd_I := if pc < 102 then lkI cl241_0 pc else lkI cl241_1 pc
theorem cg241 : ∀ pc, Sd gd_mt M241 pc (cd241 pc) := by
  intro pc
  unfold cd241
  by_cases h0 : pc < 102
  · rw [if_pos h0]; exact sd_lk cs241_0 pc
  rw [if_neg h0]
  exact sd_lk cs241_1 pc
theorem r242_0 : Sd gd_mt M242 0 (i_ald 0 1) := sd_aload_n dX8_ahead_0 rfl rfl
theorem r242_1 : Sd gd_mt M242 1 (i_psh (.int 0) 2) := sd_iconst dX8_ahead_1 (by decide) rfl
theorem r242_2 : Sd gd_mt M242 2 (i_putI 8 0 5) := sd_putI ck8 (by decide) rfl (.inl q1454) (.inl rfl) dX8_ahead_2 rfl
theorem r242_5 : Sd gd_mt M242 5 (i_ald 0 6) := sd_aload_n dX8_ahead_5 rfl rfl
theorem r242_6 : Sd gd_mt M242 6 (i_ild 1 7) := sd_iload_n dX8_ahead_6 rfl rfl
theorem r242_7 : Sd gd_mt M242 7 (i_psh (.int 0) 8) := sd_iconst dX8_ahead_7 (by decide) rfl
theorem r242_8 : Sd gd_mt M242 8 (i_psh (.int 99) 10) := sd_bipush dX8_ahead_8 (by decide) rfl
theorem r242_10 : Sd gd_mt M242 10 (i_cS 233 3 13) := sd_cS2 e233 cal233 q1853 q1854 dX8_ahead_10 rfl
theorem r242_13 : Sd gd_mt M242 13 (i_msk [true, true, true, false] (i_ifeq 29 16)) := sd_msk _ (sd_ifeq dX8_ahead_13 (by decide) rfl)
theorem r242_16 : Sd gd_mt M242 16 (i_ild 2 17) := sd_iload_n dX8_ahead_16 rfl rfl
theorem r242_17 : Sd gd_mt M242 17 (i_psh (.int 0) 18) := sd_iconst dX8_ahead_17 (by decide) rfl
theorem r242_18 : Sd gd_mt M242 18 (i_psh (.int 2) 19) := sd_iconst dX8_ahead_18 (by decide) rfl
theorem r242_19 : Sd gd_mt M242 19 (i_cS 233 3 22) := sd_cS2 e233 cal233 q1853 q1854 dX8_ahead_19 rfl
theorem r242_22 : Sd gd_mt M242 22 (i_msk [true, true, true, false] (i_ifeq 29 25)) := sd_msk _ (sd_ifeq dX8_ahead_22 (by decide) rfl)
theorem r242_25 : Sd gd_mt M242 25 (i_psh (.int 1) 26) := sd_iconst dX8_ahead_25 (by decide) rfl
theorem r242_26 : Sd gd_mt M242 26 (i_goto 30) := sd_goto dX8_ahead_26 (by decide)
theorem r242_29 : Sd gd_mt M242 29 (i_msk [true, true, true, false] (i_psh (.int 0) 30)) := sd_msk _ (sd_iconst dX8_ahead_29 (by decide) rfl)
theorem r242_30 : Sd gd_mt M242 30 (i_msk [true, true, true, false] (i_psh (.int 1) 31)) := sd_msk _ (sd_iconst dX8_ahead_30 (by decide) rfl)
theorem r242_31 : Sd gd_mt M242 31 (i_psh (.int 1) 32) := sd_iconst dX8_ahead_31 (by decide) rfl
theorem r242_32 : Sd gd_mt M242 32 (i_cV 183 3 8 35) := sd_cV2 e183 cal183 q1639 q1641 (rfl : gd_cl 8 = some _) qs30 dX8_ahead_32 rfl
theorem r242_35 : Sd gd_mt M242 35 (i_msk [true, true, true, false] (i_ifne 40 38)) := sd_msk _ (sd_ifne dX8_ahead_35 (by decide) rfl)
theorem r242_38 : Sd gd_mt M242 38 (i_psh (.int 0) 39) := sd_iconst dX8_ahead_38 (by decide) rfl
theorem r242_39 : Sd gd_mt M242 39 (i_iret) := sd_iret rfl dX8_ahead_39
theorem r242_40 : Sd gd_mt M242 40 (i_ald 0 41) := sd_aload_n dX8_ahead_40 rfl rfl
theorem r242_41 : Sd gd_mt M242 41 (i_cV 211 0 8 44) := sd_cV2 e211 cal211 q1767 q1769 (rfl : gd_cl 8 = some _) qs52 dX8_ahead_41 rfl
theorem r242_44 : Sd gd_mt M242 44 (i_msk [true, true, true, false] (i_psh (.int 0) 45)) := sd_msk _ (sd_iconst dX8_ahead_44 (by decide) rfl)
theorem r242_45 : Sd gd_mt M242 45 (i_ist 3 46) := sd_istore_n dX8_ahead_45 rfl (by decide) rfl
theorem r242_46 : Sd gd_mt M242 46 (i_msk [true, true, true, true] (i_ild 3 47)) := sd_msk _ (sd_iload_n dX8_ahead_46 rfl rfl)
theorem r242_47 : Sd gd_mt M242 47 (i_ild 1 48) := sd_iload_n dX8_ahead_47 rfl rfl
theorem r242_48 : Sd gd_mt M242 48 (i_icge 61 51) := sd_icge dX8_ahead_48 (by decide) rfl
theorem r242_51 : Sd gd_mt M242 51 (i_ald 0 52) := sd_aload_n dX8_ahead_51 rfl rfl
theorem r242_52 : Sd gd_mt M242 52 (i_cV 219 0 8 55) := sd_cV2 e219 cal219 q1799 q1801 (rfl : gd_cl 8 = some _) qs60 dX8_ahead_52 rfl
theorem r242_55 : Sd gd_mt M242 55 (i_msk [true, true, true, true] (i_inc 3 1 58)) := sd_msk _ (sd_iinc dX8_ahead_55 (by decide) (by decide) rfl)
theorem r242_58 : Sd gd_mt M242 58 (i_goto 46) := sd_goto dX8_ahead_58 (by decide)
theorem r242_61 : Sd gd_mt M242 61 (i_ild 2 62) := sd_iload_n dX8_ahead_61 rfl rfl
theorem r242_62 : Sd gd_mt M242 62 (i_ifne 76 65) := sd_ifne dX8_ahead_62 (by decide) rfl
theorem r242_65 : Sd gd_mt M242 65 (i_ald 0 66) := sd_aload_n dX8_ahead_65 rfl rfl
theorem r242_66 : Sd gd_mt M242 66 (i_ald 0 67) := sd_aload_n dX8_ahead_66 rfl rfl
theorem r242_67 : Sd gd_mt M242 67 (i_getI 8 20 70) := sd_getI ck8 (by decide) rfl (.inl q1474) dX8_ahead_67 rfl
theorem r242_70 : Sd gd_mt M242 70 (i_cV 216 1 8 73) := sd_cV2 e216 cal216 q1787 q1789 (rfl : gd_cl 8 = some _) qs57 dX8_ahead_70 rfl
theorem r242_73 : Sd gd_mt M242 73 (i_msk [false, false, false, false] (i_goto 92)) := sd_msk _ (sd_goto dX8_ahead_73 (by decide))
theorem r242_76 : Sd gd_mt M242 76 (i_ild 2 77) := sd_iload_n dX8_ahead_76 rfl rfl
theorem r242_77 : Sd gd_mt M242 77 (i_psh (.int 1) 78) := sd_iconst dX8_ahead_77 (by decide) rfl
theorem r242_78 : Sd gd_mt M242 78 (i_icne 88 81) := sd_icne dX8_ahead_78 (by decide) rfl
theorem r242_81 : Sd gd_mt M242 81 (i_ald 0 82) := sd_aload_n dX8_ahead_81 rfl rfl
theorem r242_82 : Sd gd_mt M242 82 (i_cV 243 0 8 85) := sd_cV2 e243 cal243 q1892 q1894 (rfl : gd_cl 8 = some _) qs73 dX8_ahead_82 rfl
theorem r242_85 : Sd gd_mt M242 85 (i_msk [false, false, false, false] (i_goto 92)) := sd_msk _ (sd_goto dX8_ahead_85 (by decide))
theorem r242_88 : Sd gd_mt M242 88 (i_ald 0 89) := sd_aload_n dX8_ahead_88 rfl rfl
def cl242_0 : List (Nat × gd_I) := [(0, i_ald 0 1), (1, i_psh (.int 0) 2), (2, i_putI 8 0 5), (5, i_ald 0 6), (6, i_ild 1 7), (7, i_psh (.int 0) 8), (8, i_psh (.int 99) 10), (10, i_cS 233 3 13), (13, i_msk [true, true, true, false] (i_ifeq 29 16)), (16, i_ild 2 17), (17, i_psh (.int 0) 18), (18, i_psh (.int 2) 19), (19, i_cS 233 3 22), (22, i_msk [true, true, true, false] (i_ifeq 29 25)), (25, i_psh (.int 1) 26), (26, i_goto 30), (29, i_msk [true, true, true, false] (i_psh (.int 0) 30)), (30, i_msk [true, true, true, false] (i_psh (.int 1) 31)), (31, i_psh (.int 1) 32), (32, i_cV 183 3 8 35), (35, i_msk [true, true, true, false] (i_ifne 40 38)), (38, i_psh (.int 0) 39), (39, i_iret), (40, i_ald 0 41), (41, i_cV 211 0 8 44), (44, i_msk [true, true, true, false] (i_psh (.int 0) 45)), (45, i_ist 3 46), (46, i_msk [true, true, true, true] (i_ild 3 47)), (47, i_ild 1 48), (48, i_icge 61 51), (51, i_ald 0 52), (52, i_cV 219 0 8 55), (55, i_msk [true, true, true, true] (i_inc 3 1 58)), (58, i_goto 46), (61, i_ild 2 62), (62, i_ifne 76 65), (65, i_ald 0 66), (66, i_ald 0 67), (67, i_getI 8 20 70), (70, i_cV 216 1 8 73), (73, i_msk [false, false, false, false] (i_goto 92)), (76, i_ild 2 77), (77, i_psh (.int 1) 78), (78, i_icne 88 81), (81, i_ald 0 82), (82, i_cV 243 0 8 85), (85, i_msk [false, false, false, false] (i_goto 92)), (88, i_ald 0 89)]
theorem cs242_0 : ∀ q ∈ cl242_0, Sd gd_mt M242 q.1 q.2 := gd_ac r242_0 (gd_ac r242_1 (gd_ac r242_2 (gd_ac r242_5 (gd_ac r242_6 (gd_ac r242_7 (gd_ac r242_8 (gd_ac r242_10 (gd_ac r242_13 (gd_ac r242_16 (gd_ac r242_17 (gd_ac r242_18 (gd_ac r242_19 (gd_ac r242_22 (gd_ac r242_25 (gd_ac r242_26 (gd_ac r242_29 (gd_ac r242_30 (gd_ac r242_31 (gd_ac r242_32 (gd_ac r242_35 (gd_ac r242_38 (gd_ac r242_39 (gd_ac r242_40 (gd_ac r242_41 (gd_ac r242_44 (gd_ac r242_45 (gd_ac r242_46 (gd_ac r242_47 (gd_ac r242_48 (gd_ac r242_51 (gd_ac r242_52 (gd_ac r242_55 (gd_ac r242_58 (gd_ac r242_61 (gd_ac r242_62 (gd_ac r242_65 (gd_ac r242_66 (gd_ac r242_67 (gd_ac r242_70 (gd_ac r242_73 (gd_ac r242_76 (gd_ac r242_77 (gd_ac r242_78 (gd_ac r242_81 (gd_ac r242_82 (gd_ac r242_85 (gd_ac r242_88 (gd_an))))))))))))))))))))))))))))))))))))))))))))))))
theorem r242_89 : Sd gd_mt M242 89 (i_cV 235 0 8 92) := sd_cV2 e235 cal235 q1860 q1862 (rfl : gd_cl 8 = some _) qs70 dX8_ahead_89 rfl
theorem r242_92 : Sd gd_mt M242 92 (i_msk [false, false, false, false] (i_iret)) := sd_msk _ (sd_iret rfl dX8_ahead_92)
def cl242_1 : List (Nat × gd_I) := [(89, i_cV 235 0 8 92), (92, i_msk [false, false, false, false] (i_iret))]
theorem cs242_1 : ∀ q ∈ cl242_1, Sd gd_mt M242 q.1 q.2 := gd_ac r242_89 (gd_ac r242_92 (gd_an))
def cd242 (pc : Nat) : gd_I := if pc < 89 then lkI cl242_0 pc else lkI cl242_1 pc
theorem cg242 : ∀ pc, Sd gd_mt M242 pc (cd242 pc) := by
  intro pc
  unfold cd242
  by_cases h0 : pc < 89
  · rw [if_pos h0]; exact sd_lk cs242_0 pc
  rw [if_neg h0]
  exact sd_lk cs242_1 pc
theorem r243_0 : Sd gd_mt M243 0 (i_psh (.int 0) 1) := sd_iconst dX8_highAll_0 (by decide) rfl
theorem r243_1 : Sd gd_mt M243 1 (i_ist 1 2) := sd_istore_n dX8_highAll_1 rfl (by decide) rfl
theorem r243_2 : Sd gd_mt M243 2 (i_psh (.int 0) 3) := sd_iconst dX8_highAll_2 (by decide) rfl
theorem r243_3 : Sd gd_mt M243 3 (i_ist 2 4) := sd_istore_n dX8_highAll_3 rfl (by decide) rfl
theorem r243_4 : Sd gd_mt M243 4 (i_msk [true, true, true] (i_ild 2 5)) := sd_msk _ (sd_iload_n dX8_highAll_4 rfl rfl)
theorem r243_5 : Sd gd_mt M243 5 (i_ald 0 6) := sd_aload_n dX8_highAll_5 rfl rfl
theorem r243_6 : Sd gd_mt M243 6 (i_getI 8 21 9) := sd_getI ck8 (by decide) rfl (.inl q1475) dX8_highAll_6 rfl
theorem r243_9 : Sd gd_mt M243 9 (i_icge 29 12) := sd_icge dX8_highAll_9 (by decide) rfl
theorem r243_12 : Sd gd_mt M243 12 (i_ild 1 13) := sd_iload_n dX8_highAll_12 rfl rfl
theorem r243_13 : Sd gd_mt M243 13 (i_ald 0 14) := sd_aload_n dX8_highAll_13 rfl rfl
theorem r243_14 : Sd gd_mt M243 14 (i_getR 8 39 17) := sd_getR ck8 (by decide) rfl (.inl q1493) dX8_highAll_14 rfl
theorem r243_17 : Sd gd_mt M243 17 (i_psh (.int 0) 18) := sd_iconst dX8_highAll_17 (by decide) rfl
theorem r243_18 : Sd gd_mt M243 18 (i_ild 2 19) := sd_iload_n dX8_highAll_18 rfl rfl
theorem r243_19 : Sd gd_mt M243 19 (i_iadd 20) := sd_iadd dX8_highAll_19 rfl
theorem r243_20 : Sd gd_mt M243 20 (i_aldI 31 21) := sd_iald dX8_highAll_20 rfl
theorem r243_21 : Sd gd_mt M243 21 (i_iadd 22) := sd_iadd dX8_highAll_21 rfl
theorem r243_22 : Sd gd_mt M243 22 (i_ist 1 23) := sd_istore_n dX8_highAll_22 rfl (by decide) rfl
theorem r243_23 : Sd gd_mt M243 23 (i_inc 2 1 26) := sd_iinc dX8_highAll_23 (by decide) (by decide) rfl
theorem r243_26 : Sd gd_mt M243 26 (i_goto 4) := sd_goto dX8_highAll_26 (by decide)
theorem r243_29 : Sd gd_mt M243 29 (i_ild 1 30) := sd_iload_n dX8_highAll_29 rfl rfl
theorem r243_30 : Sd gd_mt M243 30 (i_iret) := sd_iret rfl dX8_highAll_30
def cl243_0 : List (Nat × gd_I) := [(0, i_psh (.int 0) 1), (1, i_ist 1 2), (2, i_psh (.int 0) 3), (3, i_ist 2 4), (4, i_msk [true, true, true] (i_ild 2 5)), (5, i_ald 0 6), (6, i_getI 8 21 9), (9, i_icge 29 12), (12, i_ild 1 13), (13, i_ald 0 14), (14, i_getR 8 39 17), (17, i_psh (.int 0) 18), (18, i_ild 2 19), (19, i_iadd 20), (20, i_aldI 31 21), (21, i_iadd 22), (22, i_ist 1 23), (23, i_inc 2 1 26), (26, i_goto 4), (29, i_ild 1 30), (30, i_iret)]
theorem cs243_0 : ∀ q ∈ cl243_0, Sd gd_mt M243 q.1 q.2 := gd_ac r243_0 (gd_ac r243_1 (gd_ac r243_2 (gd_ac r243_3 (gd_ac r243_4 (gd_ac r243_5 (gd_ac r243_6 (gd_ac r243_9 (gd_ac r243_12 (gd_ac r243_13 (gd_ac r243_14 (gd_ac r243_17 (gd_ac r243_18 (gd_ac r243_19 (gd_ac r243_20 (gd_ac r243_21 (gd_ac r243_22 (gd_ac r243_23 (gd_ac r243_26 (gd_ac r243_29 (gd_ac r243_30 (gd_an)))))))))))))))))))))
def cd243 (pc : Nat) : gd_I := lkI cl243_0 pc
theorem cg243 : ∀ pc, Sd gd_mt M243 pc (cd243 pc) := sd_lk cs243_0
theorem r244_0 : Sd gd_mt M244 0 (i_ald 0 1) := sd_aload_n dX8_passes_0 rfl rfl
theorem r244_1 : Sd gd_mt M244 1 (i_psh (.int 0) 2) := sd_iconst dX8_passes_1 (by decide) rfl
theorem r244_2 : Sd gd_mt M244 2 (i_putI 8 0 5) := sd_putI ck8 (by decide) rfl (.inl q1454) (.inl rfl) dX8_passes_2 rfl
theorem r244_5 : Sd gd_mt M244 5 (i_ald 0 6) := sd_aload_n dX8_passes_5 rfl rfl
theorem r244_6 : Sd gd_mt M244 6 (i_ild 1 7) := sd_iload_n dX8_passes_6 rfl rfl
theorem r244_7 : Sd gd_mt M244 7 (i_psh (.int 1) 8) := sd_iconst dX8_passes_7 (by decide) rfl
theorem r244_8 : Sd gd_mt M244 8 (i_cV 239 2 8 11) := sd_cV2 e239 cal239 q1876 q1878 (rfl : gd_cl 8 = some _) qs72 dX8_passes_8 rfl
theorem r244_11 : Sd gd_mt M244 11 (i_msk [true, true, true, false] (i_ifeq 42 14)) := sd_msk _ (sd_ifeq dX8_passes_11 (by decide) rfl)
theorem r244_14 : Sd gd_mt M244 14 (i_ald 0 15) := sd_aload_n dX8_passes_14 rfl rfl
theorem r244_15 : Sd gd_mt M244 15 (i_ild 2 16) := sd_iload_n dX8_passes_15 rfl rfl
theorem r244_16 : Sd gd_mt M244 16 (i_psh (.int 1) 17) := sd_iconst dX8_passes_16 (by decide) rfl
theorem r244_17 : Sd gd_mt M244 17 (i_cV 239 2 8 20) := sd_cV2 e239 cal239 q1876 q1878 (rfl : gd_cl 8 = some _) qs72 dX8_passes_17 rfl
theorem r244_20 : Sd gd_mt M244 20 (i_msk [true, true, true, false] (i_ifeq 42 23)) := sd_msk _ (sd_ifeq dX8_passes_20 (by decide) rfl)
theorem r244_23 : Sd gd_mt M244 23 (i_ald 0 24) := sd_aload_n dX8_passes_23 rfl rfl
theorem r244_24 : Sd gd_mt M244 24 (i_ild 1 25) := sd_iload_n dX8_passes_24 rfl rfl
theorem r244_25 : Sd gd_mt M244 25 (i_ild 2 26) := sd_iload_n dX8_passes_25 rfl rfl
theorem r244_26 : Sd gd_mt M244 26 (i_iceq 33 29) := sd_iceq dX8_passes_26 (by decide) rfl
theorem r244_29 : Sd gd_mt M244 29 (i_psh (.int 1) 30) := sd_iconst dX8_passes_29 (by decide) rfl
theorem r244_30 : Sd gd_mt M244 30 (i_goto 34) := sd_goto dX8_passes_30 (by decide)
theorem r244_33 : Sd gd_mt M244 33 (i_psh (.int 0) 34) := sd_iconst dX8_passes_33 (by decide) rfl
theorem r244_34 : Sd gd_mt M244 34 (i_msk [true, true, true, false] (i_psh (.int 2) 35)) := sd_msk _ (sd_iconst dX8_passes_34 (by decide) rfl)
theorem r244_35 : Sd gd_mt M244 35 (i_psh (.int 1) 36) := sd_iconst dX8_passes_35 (by decide) rfl
theorem r244_36 : Sd gd_mt M244 36 (i_cV 183 3 8 39) := sd_cV2 e183 cal183 q1639 q1641 (rfl : gd_cl 8 = some _) qs30 dX8_passes_36 rfl
theorem r244_39 : Sd gd_mt M244 39 (i_msk [true, true, true, false] (i_ifne 44 42)) := sd_msk _ (sd_ifne dX8_passes_39 (by decide) rfl)
theorem r244_42 : Sd gd_mt M244 42 (i_msk [false, false, false, false] (i_psh (.int 0) 43)) := sd_msk _ (sd_iconst dX8_passes_42 (by decide) rfl)
theorem r244_43 : Sd gd_mt M244 43 (i_iret) := sd_iret rfl dX8_passes_43
theorem r244_44 : Sd gd_mt M244 44 (i_ald 0 45) := sd_aload_n dX8_passes_44 rfl rfl
theorem r244_45 : Sd gd_mt M244 45 (i_cV 211 0 8 48) := sd_cV2 e211 cal211 q1767 q1769 (rfl : gd_cl 8 = some _) qs52 dX8_passes_45 rfl
theorem r244_48 : Sd gd_mt M244 48 (i_msk [true, true, true, false] (i_psh (.int 0) 49)) := sd_msk _ (sd_iconst dX8_passes_48 (by decide) rfl)
theorem r244_49 : Sd gd_mt M244 49 (i_ist 3 50) := sd_istore_n dX8_passes_49 rfl (by decide) rfl
theorem r244_50 : Sd gd_mt M244 50 (i_msk [true, true, true, true] (i_ild 3 51)) := sd_msk _ (sd_iload_n dX8_passes_50 rfl rfl)
theorem r244_51 : Sd gd_mt M244 51 (i_psh (.int 99) 53) := sd_bipush dX8_passes_51 (by decide) rfl
theorem r244_53 : Sd gd_mt M244 53 (i_icgt 87 56) := sd_icgt dX8_passes_53 (by decide) rfl
theorem r244_56 : Sd gd_mt M244 56 (i_ald 0 57) := sd_aload_n dX8_passes_56 rfl rfl
theorem r244_57 : Sd gd_mt M244 57 (i_getR 8 39 60) := sd_getR ck8 (by decide) rfl (.inl q1493) dX8_passes_57 rfl
theorem r244_60 : Sd gd_mt M244 60 (i_psh (.int 0) 61) := sd_iconst dX8_passes_60 (by decide) rfl
theorem r244_61 : Sd gd_mt M244 61 (i_ild 1 62) := sd_iload_n dX8_passes_61 rfl rfl
theorem r244_62 : Sd gd_mt M244 62 (i_iadd 63) := sd_iadd dX8_passes_62 rfl
theorem r244_63 : Sd gd_mt M244 63 (i_aldI 31 64) := sd_iald dX8_passes_63 rfl
theorem r244_64 : Sd gd_mt M244 64 (i_ald 0 65) := sd_aload_n dX8_passes_64 rfl rfl
theorem r244_65 : Sd gd_mt M244 65 (i_getR 8 39 68) := sd_getR ck8 (by decide) rfl (.inl q1493) dX8_passes_65 rfl
theorem r244_68 : Sd gd_mt M244 68 (i_psh (.int 0) 69) := sd_iconst dX8_passes_68 (by decide) rfl
theorem r244_69 : Sd gd_mt M244 69 (i_ild 2 70) := sd_iload_n dX8_passes_69 rfl rfl
theorem r244_70 : Sd gd_mt M244 70 (i_iadd 71) := sd_iadd dX8_passes_70 rfl
theorem r244_71 : Sd gd_mt M244 71 (i_aldI 31 72) := sd_iald dX8_passes_71 rfl
theorem r244_72 : Sd gd_mt M244 72 (i_icle 77 75) := sd_icle dX8_passes_72 (by decide) rfl
theorem r244_75 : Sd gd_mt M244 75 (i_ild 3 76) := sd_iload_n dX8_passes_75 rfl rfl
theorem r244_76 : Sd gd_mt M244 76 (i_iret) := sd_iret rfl dX8_passes_76
def cl244_0 : List (Nat × gd_I) := [(0, i_ald 0 1), (1, i_psh (.int 0) 2), (2, i_putI 8 0 5), (5, i_ald 0 6), (6, i_ild 1 7), (7, i_psh (.int 1) 8), (8, i_cV 239 2 8 11), (11, i_msk [true, true, true, false] (i_ifeq 42 14)), (14, i_ald 0 15), (15, i_ild 2 16), (16, i_psh (.int 1) 17), (17, i_cV 239 2 8 20), (20, i_msk [true, true, true, false] (i_ifeq 42 23)), (23, i_ald 0 24), (24, i_ild 1 25), (25, i_ild 2 26), (26, i_iceq 33 29), (29, i_psh (.int 1) 30), (30, i_goto 34), (33, i_psh (.int 0) 34), (34, i_msk [true, true, true, false] (i_psh (.int 2) 35)), (35, i_psh (.int 1) 36), (36, i_cV 183 3 8 39), (39, i_msk [true, true, true, false] (i_ifne 44 42)), (42, i_msk [false, false, false, false] (i_psh (.int 0) 43)), (43, i_iret), (44, i_ald 0 45), (45, i_cV 211 0 8 48), (48, i_msk [true, true, true, false] (i_psh (.int 0) 49)), (49, i_ist 3 50), (50, i_msk [true, true, true, true] (i_ild 3 51)), (51, i_psh (.int 99) 53), (53, i_icgt 87 56), (56, i_ald 0 57), (57, i_getR 8 39 60), (60, i_psh (.int 0) 61), (61, i_ild 1 62), (62, i_iadd 63), (63, i_aldI 31 64), (64, i_ald 0 65), (65, i_getR 8 39 68), (68, i_psh (.int 0) 69), (69, i_ild 2 70), (70, i_iadd 71), (71, i_aldI 31 72), (72, i_icle 77 75), (75, i_ild 3 76), (76, i_iret)]
theorem cs244_0 : ∀ q ∈ cl244_0, Sd gd_mt M244 q.1 q.2 := gd_ac r244_0 (gd_ac r244_1 (gd_ac r244_2 (gd_ac r244_5 (gd_ac r244_6 (gd_ac r244_7 (gd_ac r244_8 (gd_ac r244_11 (gd_ac r244_14 (gd_ac r244_15 (gd_ac r244_16 (gd_ac r244_17 (gd_ac r244_20 (gd_ac r244_23 (gd_ac r244_24 (gd_ac r244_25 (gd_ac r244_26 (gd_ac r244_29 (gd_ac r244_30 (gd_ac r244_33 (gd_ac r244_34 (gd_ac r244_35 (gd_ac r244_36 (gd_ac r244_39 (gd_ac r244_42 (gd_ac r244_43 (gd_ac r244_44 (gd_ac r244_45 (gd_ac r244_48 (gd_ac r244_49 (gd_ac r244_50 (gd_ac r244_51 (gd_ac r244_53 (gd_ac r244_56 (gd_ac r244_57 (gd_ac r244_60 (gd_ac r244_61 (gd_ac r244_62 (gd_ac r244_63 (gd_ac r244_64 (gd_ac r244_65 (gd_ac r244_68 (gd_ac r244_69 (gd_ac r244_70 (gd_ac r244_71 (gd_ac r244_72 (gd_ac r244_75 (gd_ac r244_76 (gd_an))))))))))))))))))))))))))))))))))))))))))))))))
theorem r244_77 : Sd gd_mt M244 77 (i_ald 0 78) := sd_aload_n dX8_passes_77 rfl rfl
theorem r244_78 : Sd gd_mt M244 78 (i_cV 219 0 8 81) := sd_cV2 e219 cal219 q1799 q1801 (rfl : gd_cl 8 = some _) qs60 dX8_passes_78 rfl
theorem r244_81 : Sd gd_mt M244 81 (i_msk [true, true, true, true] (i_inc 3 1 84)) := sd_msk _ (sd_iinc dX8_passes_81 (by decide) (by decide) rfl)
theorem r244_84 : Sd gd_mt M244 84 (i_goto 50) := sd_goto dX8_passes_84 (by decide)
theorem r244_87 : Sd gd_mt M244 87 (i_psh (.int (-1)) 88) := sd_iconst dX8_passes_87 (by decide) rfl
theorem r244_88 : Sd gd_mt M244 88 (i_iret) := sd_iret rfl dX8_passes_88
def cl244_1 : List (Nat × gd_I) := [(77, i_ald 0 78), (78, i_cV 219 0 8 81), (81, i_msk [true, true, true, true] (i_inc 3 1 84)), (84, i_goto 50), (87, i_psh (.int (-1)) 88), (88, i_iret)]
theorem cs244_1 : ∀ q ∈ cl244_1, Sd gd_mt M244 q.1 q.2 := gd_ac r244_77 (gd_ac r244_78 (gd_ac r244_81 (gd_ac r244_84 (gd_ac r244_87 (gd_ac r244_88 (gd_an))))))
def cd244 (pc : Nat) : gd_I := if pc < 77 then lkI cl244_0 pc else lkI cl244_1 pc
theorem cg244 : ∀ pc, Sd gd_mt M244 pc (cd244 pc) := by
  intro pc
  unfold cd244
  by_cases h0 : pc < 77
  · rw [if_pos h0]; exact sd_lk cs244_0 pc
  rw [if_neg h0]
  exact sd_lk cs244_1 pc
theorem r245_0 : Sd gd_mt M245 0 (i_ald 0 1) := sd_aload_n dX8_sinks_0 rfl rfl
theorem r245_1 : Sd gd_mt M245 1 (i_psh (.int 0) 2) := sd_iconst dX8_sinks_1 (by decide) rfl
theorem r245_2 : Sd gd_mt M245 2 (i_putI 8 0 5) := sd_putI ck8 (by decide) rfl (.inl q1454) (.inl rfl) dX8_sinks_2 rfl
theorem r245_5 : Sd gd_mt M245 5 (i_ald 0 6) := sd_aload_n dX8_sinks_5 rfl rfl
theorem r245_6 : Sd gd_mt M245 6 (i_ild 1 7) := sd_iload_n dX8_sinks_6 rfl rfl
theorem r245_7 : Sd gd_mt M245 7 (i_psh (.int 1) 8) := sd_iconst dX8_sinks_7 (by decide) rfl
theorem r245_8 : Sd gd_mt M245 8 (i_cV 239 2 8 11) := sd_cV2 e239 cal239 q1876 q1878 (rfl : gd_cl 8 = some _) qs72 dX8_sinks_8 rfl
theorem r245_11 : Sd gd_mt M245 11 (i_msk [true, true, false] (i_ifne 16 14)) := sd_msk _ (sd_ifne dX8_sinks_11 (by decide) rfl)
theorem r245_14 : Sd gd_mt M245 14 (i_psh (.int 0) 15) := sd_iconst dX8_sinks_14 (by decide) rfl
theorem r245_15 : Sd gd_mt M245 15 (i_iret) := sd_iret rfl dX8_sinks_15
theorem r245_16 : Sd gd_mt M245 16 (i_ald 0 17) := sd_aload_n dX8_sinks_16 rfl rfl
theorem r245_17 : Sd gd_mt M245 17 (i_cV 211 0 8 20) := sd_cV2 e211 cal211 q1767 q1769 (rfl : gd_cl 8 = some _) qs52 dX8_sinks_17 rfl
theorem r245_20 : Sd gd_mt M245 20 (i_msk [true, true, false] (i_psh (.int 0) 21)) := sd_msk _ (sd_iconst dX8_sinks_20 (by decide) rfl)
theorem r245_21 : Sd gd_mt M245 21 (i_ist 2 22) := sd_istore_n dX8_sinks_21 rfl (by decide) rfl
theorem r245_22 : Sd gd_mt M245 22 (i_msk [true, true, true] (i_ild 2 23)) := sd_msk _ (sd_iload_n dX8_sinks_22 rfl rfl)
theorem r245_23 : Sd gd_mt M245 23 (i_psh (.int 99) 25) := sd_bipush dX8_sinks_23 (by decide) rfl
theorem r245_25 : Sd gd_mt M245 25 (i_icgt 48 28) := sd_icgt dX8_sinks_25 (by decide) rfl
theorem r245_28 : Sd gd_mt M245 28 (i_ald 0 29) := sd_aload_n dX8_sinks_28 rfl rfl
theorem r245_29 : Sd gd_mt M245 29 (i_ild 1 30) := sd_iload_n dX8_sinks_29 rfl rfl
theorem r245_30 : Sd gd_mt M245 30 (i_cV 222 1 8 33) := sd_cV2 e222 cal222 q1811 q1813 (rfl : gd_cl 8 = some _) qs63 dX8_sinks_30 rfl
theorem r245_33 : Sd gd_mt M245 33 (i_msk [true, true, true] (i_ifge 38 36)) := sd_msk _ (sd_ifge dX8_sinks_33 (by decide) rfl)
theorem r245_36 : Sd gd_mt M245 36 (i_ild 2 37) := sd_iload_n dX8_sinks_36 rfl rfl
theorem r245_37 : Sd gd_mt M245 37 (i_iret) := sd_iret rfl dX8_sinks_37
theorem r245_38 : Sd gd_mt M245 38 (i_ald 0 39) := sd_aload_n dX8_sinks_38 rfl rfl
theorem r245_39 : Sd gd_mt M245 39 (i_cV 219 0 8 42) := sd_cV2 e219 cal219 q1799 q1801 (rfl : gd_cl 8 = some _) qs60 dX8_sinks_39 rfl
theorem r245_42 : Sd gd_mt M245 42 (i_msk [true, true, true] (i_inc 2 1 45)) := sd_msk _ (sd_iinc dX8_sinks_42 (by decide) (by decide) rfl)
theorem r245_45 : Sd gd_mt M245 45 (i_goto 22) := sd_goto dX8_sinks_45 (by decide)
theorem r245_48 : Sd gd_mt M245 48 (i_psh (.int (-1)) 49) := sd_iconst dX8_sinks_48 (by decide) rfl
theorem r245_49 : Sd gd_mt M245 49 (i_iret) := sd_iret rfl dX8_sinks_49
def cl245_0 : List (Nat × gd_I) := [(0, i_ald 0 1), (1, i_psh (.int 0) 2), (2, i_putI 8 0 5), (5, i_ald 0 6), (6, i_ild 1 7), (7, i_psh (.int 1) 8), (8, i_cV 239 2 8 11), (11, i_msk [true, true, false] (i_ifne 16 14)), (14, i_psh (.int 0) 15), (15, i_iret), (16, i_ald 0 17), (17, i_cV 211 0 8 20), (20, i_msk [true, true, false] (i_psh (.int 0) 21)), (21, i_ist 2 22), (22, i_msk [true, true, true] (i_ild 2 23)), (23, i_psh (.int 99) 25), (25, i_icgt 48 28), (28, i_ald 0 29), (29, i_ild 1 30), (30, i_cV 222 1 8 33), (33, i_msk [true, true, true] (i_ifge 38 36)), (36, i_ild 2 37), (37, i_iret), (38, i_ald 0 39), (39, i_cV 219 0 8 42), (42, i_msk [true, true, true] (i_inc 2 1 45)), (45, i_goto 22), (48, i_psh (.int (-1)) 49), (49, i_iret)]
theorem cs245_0 : ∀ q ∈ cl245_0, Sd gd_mt M245 q.1 q.2 := gd_ac r245_0 (gd_ac r245_1 (gd_ac r245_2 (gd_ac r245_5 (gd_ac r245_6 (gd_ac r245_7 (gd_ac r245_8 (gd_ac r245_11 (gd_ac r245_14 (gd_ac r245_15 (gd_ac r245_16 (gd_ac r245_17 (gd_ac r245_20 (gd_ac r245_21 (gd_ac r245_22 (gd_ac r245_23 (gd_ac r245_25 (gd_ac r245_28 (gd_ac r245_29 (gd_ac r245_30 (gd_ac r245_33 (gd_ac r245_36 (gd_ac r245_37 (gd_ac r245_38 (gd_ac r245_39 (gd_ac r245_42 (gd_ac r245_45 (gd_ac r245_48 (gd_ac r245_49 (gd_an)))))))))))))))))))))))))))))
def cd245 (pc : Nat) : gd_I := lkI cl245_0 pc
theorem cg245 : ∀ pc, Sd gd_mt M245 pc (cd245 pc) := sd_lk cs245_0
theorem r246_0 : Sd gd_mt M246 0 (i_ald 0 1) := sd_aload_n dX8_feeds_0 rfl rfl
theorem r246_1 : Sd gd_mt M246 1 (i_psh (.int 0) 2) := sd_iconst dX8_feeds_1 (by decide) rfl
theorem r246_2 : Sd gd_mt M246 2 (i_putI 8 0 5) := sd_putI ck8 (by decide) rfl (.inl q1454) (.inl rfl) dX8_feeds_2 rfl
theorem r246_5 : Sd gd_mt M246 5 (i_ald 0 6) := sd_aload_n dX8_feeds_5 rfl rfl
theorem r246_6 : Sd gd_mt M246 6 (i_ild 1 7) := sd_iload_n dX8_feeds_6 rfl rfl
theorem r246_7 : Sd gd_mt M246 7 (i_psh (.int 1) 8) := sd_iconst dX8_feeds_7 (by decide) rfl
theorem r246_8 : Sd gd_mt M246 8 (i_cV 239 2 8 11) := sd_cV2 e239 cal239 q1876 q1878 (rfl : gd_cl 8 = some _) qs72 dX8_feeds_8 rfl
theorem r246_11 : Sd gd_mt M246 11 (i_msk [true, true, true, false, false] (i_ifeq 30 14)) := sd_msk _ (sd_ifeq dX8_feeds_11 (by decide) rfl)
theorem r246_14 : Sd gd_mt M246 14 (i_ald 0 15) := sd_aload_n dX8_feeds_14 rfl rfl
theorem r246_15 : Sd gd_mt M246 15 (i_ild 2 16) := sd_iload_n dX8_feeds_15 rfl rfl
theorem r246_16 : Sd gd_mt M246 16 (i_psh (.int 0) 17) := sd_iconst dX8_feeds_16 (by decide) rfl
theorem r246_17 : Sd gd_mt M246 17 (i_psh (.int 99) 19) := sd_bipush dX8_feeds_17 (by decide) rfl
theorem r246_19 : Sd gd_mt M246 19 (i_cS 233 3 22) := sd_cS2 e233 cal233 q1853 q1854 dX8_feeds_19 rfl
theorem r246_22 : Sd gd_mt M246 22 (i_msk [true, true, true, false, false] (i_psh (.int 2) 23)) := sd_msk _ (sd_iconst dX8_feeds_22 (by decide) rfl)
theorem r246_23 : Sd gd_mt M246 23 (i_psh (.int 1) 24) := sd_iconst dX8_feeds_23 (by decide) rfl
theorem r246_24 : Sd gd_mt M246 24 (i_cV 183 3 8 27) := sd_cV2 e183 cal183 q1639 q1641 (rfl : gd_cl 8 = some _) qs30 dX8_feeds_24 rfl
theorem r246_27 : Sd gd_mt M246 27 (i_msk [true, true, true, false, false] (i_ifne 32 30)) := sd_msk _ (sd_ifne dX8_feeds_27 (by decide) rfl)
theorem r246_30 : Sd gd_mt M246 30 (i_msk [false, false, false, false, false] (i_psh (.int 0) 31)) := sd_msk _ (sd_iconst dX8_feeds_30 (by decide) rfl)
theorem r246_31 : Sd gd_mt M246 31 (i_iret) := sd_iret rfl dX8_feeds_31
theorem r246_32 : Sd gd_mt M246 32 (i_ald 0 33) := sd_aload_n dX8_feeds_32 rfl rfl
theorem r246_33 : Sd gd_mt M246 33 (i_getR 8 38 36) := sd_getR ck8 (by decide) rfl (.inl q1492) dX8_feeds_33 rfl
theorem r246_36 : Sd gd_mt M246 36 (i_psh (.int 14) 38) := sd_bipush dX8_feeds_36 (by decide) rfl
theorem r246_38 : Sd gd_mt M246 38 (i_ild 1 39) := sd_iload_n dX8_feeds_38 rfl rfl
theorem r246_39 : Sd gd_mt M246 39 (i_iadd 40) := sd_iadd dX8_feeds_39 rfl
theorem r246_40 : Sd gd_mt M246 40 (i_aldI 31 41) := sd_iald dX8_feeds_40 rfl
theorem r246_41 : Sd gd_mt M246 41 (i_psh (.int (-1)) 42) := sd_iconst dX8_feeds_41 (by decide) rfl
theorem r246_42 : Sd gd_mt M246 42 (i_icne 47 45) := sd_icne dX8_feeds_42 (by decide) rfl
theorem r246_45 : Sd gd_mt M246 45 (i_psh (.int (-1)) 46) := sd_iconst dX8_feeds_45 (by decide) rfl
theorem r246_46 : Sd gd_mt M246 46 (i_iret) := sd_iret rfl dX8_feeds_46
theorem r246_47 : Sd gd_mt M246 47 (i_psh (.int 0) 48) := sd_iconst dX8_feeds_47 (by decide) rfl
theorem r246_48 : Sd gd_mt M246 48 (i_ist 3 49) := sd_istore_n dX8_feeds_48 rfl (by decide) rfl
theorem r246_49 : Sd gd_mt M246 49 (i_msk [true, true, true, true, false] (i_ild 3 50)) := sd_msk _ (sd_iload_n dX8_feeds_49 rfl rfl)
theorem r246_50 : Sd gd_mt M246 50 (i_psh (.int 9) 52) := sd_bipush dX8_feeds_50 (by decide) rfl
theorem r246_52 : Sd gd_mt M246 52 (i_icgt 104 55) := sd_icgt dX8_feeds_52 (by decide) rfl
theorem r246_55 : Sd gd_mt M246 55 (i_ald 0 56) := sd_aload_n dX8_feeds_55 rfl rfl
theorem r246_56 : Sd gd_mt M246 56 (i_cV 211 0 8 59) := sd_cV2 e211 cal211 q1767 q1769 (rfl : gd_cl 8 = some _) qs52 dX8_feeds_56 rfl
theorem r246_59 : Sd gd_mt M246 59 (i_msk [true, true, true, true, false] (i_ald 0 60)) := sd_msk _ (sd_aload_n dX8_feeds_59 rfl rfl)
theorem r246_60 : Sd gd_mt M246 60 (i_getR 8 39 63) := sd_getR ck8 (by decide) rfl (.inl q1493) dX8_feeds_60 rfl
theorem r246_63 : Sd gd_mt M246 63 (i_psh (.int 7) 65) := sd_bipush dX8_feeds_63 (by decide) rfl
theorem r246_65 : Sd gd_mt M246 65 (i_ild 1 66) := sd_iload_n dX8_feeds_65 rfl rfl
theorem r246_66 : Sd gd_mt M246 66 (i_iadd 67) := sd_iadd dX8_feeds_66 rfl
theorem r246_67 : Sd gd_mt M246 67 (i_ild 3 68) := sd_iload_n dX8_feeds_67 rfl rfl
theorem r246_68 : Sd gd_mt M246 68 (i_astI 69) := sd_astI dX8_feeds_68 rfl
theorem r246_69 : Sd gd_mt M246 69 (i_psh (.int 0) 70) := sd_iconst dX8_feeds_69 (by decide) rfl
theorem r246_70 : Sd gd_mt M246 70 (i_ist 4 72) := sd_istore dX8_feeds_70 (by decide) rfl
theorem r246_72 : Sd gd_mt M246 72 (i_msk [true, true, true, true, true] (i_ild 4 74)) := sd_msk _ (sd_iload dX8_feeds_72 rfl)
theorem r246_74 : Sd gd_mt M246 74 (i_ild 2 75) := sd_iload_n dX8_feeds_74 rfl rfl
theorem r246_75 : Sd gd_mt M246 75 (i_icge 88 78) := sd_icge dX8_feeds_75 (by decide) rfl
def cl246_0 : List (Nat × gd_I) := [(0, i_ald 0 1), (1, i_psh (.int 0) 2), (2, i_putI 8 0 5), (5, i_ald 0 6), (6, i_ild 1 7), (7, i_psh (.int 1) 8), (8, i_cV 239 2 8 11), (11, i_msk [true, true, true, false, false] (i_ifeq 30 14)), (14, i_ald 0 15), (15, i_ild 2 16), (16, i_psh (.int 0) 17), (17, i_psh (.int 99) 19), (19, i_cS 233 3 22), (22, i_msk [true, true, true, false, false] (i_psh (.int 2) 23)), (23, i_psh (.int 1) 24), (24, i_cV 183 3 8 27), (27, i_msk [true, true, true, false, false] (i_ifne 32 30)), (30, i_msk [false, false, false, false, false] (i_psh (.int 0) 31)), (31, i_iret), (32, i_ald 0 33), (33, i_getR 8 38 36), (36, i_psh (.int 14) 38), (38, i_ild 1 39), (39, i_iadd 40), (40, i_aldI 31 41), (41, i_psh (.int (-1)) 42), (42, i_icne 47 45), (45, i_psh (.int (-1)) 46), (46, i_iret), (47, i_psh (.int 0) 48), (48, i_ist 3 49), (49, i_msk [true, true, true, true, false] (i_ild 3 50)), (50, i_psh (.int 9) 52), (52, i_icgt 104 55), (55, i_ald 0 56), (56, i_cV 211 0 8 59), (59, i_msk [true, true, true, true, false] (i_ald 0 60)), (60, i_getR 8 39 63), (63, i_psh (.int 7) 65), (65, i_ild 1 66), (66, i_iadd 67), (67, i_ild 3 68), (68, i_astI 69), (69, i_psh (.int 0) 70), (70, i_ist 4 72), (72, i_msk [true, true, true, true, true] (i_ild 4 74)), (74, i_ild 2 75), (75, i_icge 88 78)]
theorem cs246_0 : ∀ q ∈ cl246_0, Sd gd_mt M246 q.1 q.2 := gd_ac r246_0 (gd_ac r246_1 (gd_ac r246_2 (gd_ac r246_5 (gd_ac r246_6 (gd_ac r246_7 (gd_ac r246_8 (gd_ac r246_11 (gd_ac r246_14 (gd_ac r246_15 (gd_ac r246_16 (gd_ac r246_17 (gd_ac r246_19 (gd_ac r246_22 (gd_ac r246_23 (gd_ac r246_24 (gd_ac r246_27 (gd_ac r246_30 (gd_ac r246_31 (gd_ac r246_32 (gd_ac r246_33 (gd_ac r246_36 (gd_ac r246_38 (gd_ac r246_39 (gd_ac r246_40 (gd_ac r246_41 (gd_ac r246_42 (gd_ac r246_45 (gd_ac r246_46 (gd_ac r246_47 (gd_ac r246_48 (gd_ac r246_49 (gd_ac r246_50 (gd_ac r246_52 (gd_ac r246_55 (gd_ac r246_56 (gd_ac r246_59 (gd_ac r246_60 (gd_ac r246_63 (gd_ac r246_65 (gd_ac r246_66 (gd_ac r246_67 (gd_ac r246_68 (gd_ac r246_69 (gd_ac r246_70 (gd_ac r246_72 (gd_ac r246_74 (gd_ac r246_75 (gd_an))))))))))))))))))))))))))))))))))))))))))))))))
theorem r246_78 : Sd gd_mt M246 78 (i_ald 0 79) := sd_aload_n dX8_feeds_78 rfl rfl
theorem r246_79 : Sd gd_mt M246 79 (i_cV 219 0 8 82) := sd_cV2 e219 cal219 q1799 q1801 (rfl : gd_cl 8 = some _) qs60 dX8_feeds_79 rfl
theorem r246_82 : Sd gd_mt M246 82 (i_msk [true, true, true, true, true] (i_inc 4 1 85)) := sd_msk _ (sd_iinc dX8_feeds_82 (by decide) (by decide) rfl)
theorem r246_85 : Sd gd_mt M246 85 (i_goto 72) := sd_goto dX8_feeds_85 (by decide)
theorem r246_88 : Sd gd_mt M246 88 (i_ald 0 89) := sd_aload_n dX8_feeds_88 rfl rfl
theorem r246_89 : Sd gd_mt M246 89 (i_ild 1 90) := sd_iload_n dX8_feeds_89 rfl rfl
theorem r246_90 : Sd gd_mt M246 90 (i_cV 222 1 8 93) := sd_cV2 e222 cal222 q1811 q1813 (rfl : gd_cl 8 = some _) qs63 dX8_feeds_90 rfl
theorem r246_93 : Sd gd_mt M246 93 (i_msk [true, true, true, true, false] (i_iflt 98 96)) := sd_msk _ (sd_iflt dX8_feeds_93 (by decide) rfl)
theorem r246_96 : Sd gd_mt M246 96 (i_ild 3 97) := sd_iload_n dX8_feeds_96 rfl rfl
theorem r246_97 : Sd gd_mt M246 97 (i_iret) := sd_iret rfl dX8_feeds_97
theorem r246_98 : Sd gd_mt M246 98 (i_inc 3 1 101) := sd_iinc dX8_feeds_98 (by decide) (by decide) rfl
theorem r246_101 : Sd gd_mt M246 101 (i_goto 49) := sd_goto dX8_feeds_101 (by decide)
theorem r246_104 : Sd gd_mt M246 104 (i_psh (.int (-1)) 105) := sd_iconst dX8_feeds_104 (by decide) rfl
theorem r246_105 : Sd gd_mt M246 105 (i_iret) := sd_iret rfl dX8_feeds_105
def cl246_1 : List (Nat × gd_I) := [(78, i_ald 0 79), (79, i_cV 219 0 8 82), (82, i_msk [true, true, true, true, true] (i_inc 4 1 85)), (85, i_goto 72), (88, i_ald 0 89), (89, i_ild 1 90), (90, i_cV 222 1 8 93), (93, i_msk [true, true, true, true, false] (i_iflt 98 96)), (96, i_ild 3 97), (97, i_iret), (98, i_inc 3 1 101), (101, i_goto 49), (104, i_psh (.int (-1)) 105), (105, i_iret)]
theorem cs246_1 : ∀ q ∈ cl246_1, Sd gd_mt M246 q.1 q.2 := gd_ac r246_78 (gd_ac r246_79 (gd_ac r246_82 (gd_ac r246_85 (gd_ac r246_88 (gd_ac r246_89 (gd_ac r246_90 (gd_ac r246_93 (gd_ac r246_96 (gd_ac r246_97 (gd_ac r246_98 (gd_ac r246_101 (gd_ac r246_104 (gd_ac r246_105 (gd_an))))))))))))))
def cd246 (pc : Nat) : gd_I := if pc < 78 then lkI cl246_0 pc else lkI cl246_1 pc
theorem cg246 : ∀ pc, Sd gd_mt M246 pc (cd246 pc) := by
  intro pc
  unfold cd246
  by_cases h0 : pc < 78
  · rw [if_pos h0]; exact sd_lk cs246_0 pc
  rw [if_neg h0]
  exact sd_lk cs246_1 pc
theorem r247_0 : Sd gd_mt M247 0 (i_ald 0 1) := sd_aload_n dX8_mates_0 rfl rfl
theorem r247_1 : Sd gd_mt M247 1 (i_psh (.int 0) 2) := sd_iconst dX8_mates_1 (by decide) rfl
theorem r247_2 : Sd gd_mt M247 2 (i_putI 8 0 5) := sd_putI ck8 (by decide) rfl (.inl q1454) (.inl rfl) dX8_mates_2 rfl
theorem r247_5 : Sd gd_mt M247 5 (i_ald 0 6) := sd_aload_n dX8_mates_5 rfl rfl
theorem r247_6 : Sd gd_mt M247 6 (i_cV 248 0 8 9) := sd_cV2 e248 cal248 q1912 q1914 (rfl : gd_cl 8 = some _) qs74 dX8_mates_6 rfl
theorem r247_9 : Sd gd_mt M247 9 (i_msk [false] (i_iret)) := sd_msk _ (sd_iret rfl dX8_mates_9)
def cl247_0 : List (Nat × gd_I) := [(0, i_ald 0 1), (1, i_psh (.int 0) 2), (2, i_putI 8 0 5), (5, i_ald 0 6), (6, i_cV 248 0 8 9), (9, i_msk [false] (i_iret))]
theorem cs247_0 : ∀ q ∈ cl247_0, Sd gd_mt M247 q.1 q.2 := gd_ac r247_0 (gd_ac r247_1 (gd_ac r247_2 (gd_ac r247_5 (gd_ac r247_6 (gd_ac r247_9 (gd_an))))))
def cd247 (pc : Nat) : gd_I := lkI cl247_0 pc
theorem cg247 : ∀ pc, Sd gd_mt M247 pc (cd247 pc) := sd_lk cs247_0
theorem r248_0 : Sd gd_mt M248 0 (i_psh (.int 0) 1) := sd_iconst dX8_findMates_0 (by decide) rfl
theorem r248_1 : Sd gd_mt M248 1 (i_ist 1 2) := sd_istore_n dX8_findMates_1 rfl (by decide) rfl
theorem r248_2 : Sd gd_mt M248 2 (i_msk [true, true, false, false, false, false, false, false, false] (i_ild 1 3)) := sd_msk _ (sd_iload_n dX8_findMates_2 rfl rfl)
theorem r248_3 : Sd gd_mt M248 3 (i_psh (.int 1) 4) := sd_iconst dX8_findMates_3 (by decide) rfl
theorem r248_4 : Sd gd_mt M248 4 (i_ald 0 5) := sd_aload_n dX8_findMates_4 rfl rfl
theorem r248_5 : Sd gd_mt M248 5 (i_getI 8 21 8) := sd_getI ck8 (by decide) rfl (.inl q1475) dX8_findMates_5 rfl
theorem r248_8 : Sd gd_mt M248 8 (i_ishl 9) := sd_ishl dX8_findMates_8 rfl
theorem r248_9 : Sd gd_mt M248 9 (i_icge 48 12) := sd_icge dX8_findMates_9 (by decide) rfl
theorem r248_12 : Sd gd_mt M248 12 (i_psh (.int 0) 13) := sd_iconst dX8_findMates_12 (by decide) rfl
theorem r248_13 : Sd gd_mt M248 13 (i_ist 2 14) := sd_istore_n dX8_findMates_13 rfl (by decide) rfl
theorem r248_14 : Sd gd_mt M248 14 (i_msk [true, true, true, false, false, false, false, false, false] (i_ild 2 15)) := sd_msk _ (sd_iload_n dX8_findMates_14 rfl rfl)
theorem r248_15 : Sd gd_mt M248 15 (i_psh (.int 1) 16) := sd_iconst dX8_findMates_15 (by decide) rfl
theorem r248_16 : Sd gd_mt M248 16 (i_icgt 42 19) := sd_icgt dX8_findMates_16 (by decide) rfl
theorem r248_19 : Sd gd_mt M248 19 (i_ald 0 20) := sd_aload_n dX8_findMates_19 rfl rfl
theorem r248_20 : Sd gd_mt M248 20 (i_getR 8 46 23) := sd_getR ck8 (by decide) rfl (.inl q1500) dX8_findMates_20 rfl
theorem r248_23 : Sd gd_mt M248 23 (i_ild 2 24) := sd_iload_n dX8_findMates_23 rfl rfl
theorem r248_24 : Sd gd_mt M248 24 (i_psh (.int 7) 26) := sd_bipush dX8_findMates_24 (by decide) rfl
theorem r248_26 : Sd gd_mt M248 26 (i_ishl 27) := sd_ishl dX8_findMates_26 rfl
theorem r248_27 : Sd gd_mt M248 27 (i_ild 1 28) := sd_iload_n dX8_findMates_27 rfl rfl
theorem r248_28 : Sd gd_mt M248 28 (i_ior 29) := sd_ior dX8_findMates_28 rfl
theorem r248_29 : Sd gd_mt M248 29 (i_ald 0 30) := sd_aload_n dX8_findMates_29 rfl rfl
theorem r248_30 : Sd gd_mt M248 30 (i_ild 1 31) := sd_iload_n dX8_findMates_30 rfl rfl
theorem r248_31 : Sd gd_mt M248 31 (i_ild 2 32) := sd_iload_n dX8_findMates_31 rfl rfl
theorem r248_32 : Sd gd_mt M248 32 (i_cV 249 2 8 35) := sd_cV2 e249 cal249 q1916 q1918 (rfl : gd_cl 8 = some _) qs75 dX8_findMates_32 rfl
theorem r248_35 : Sd gd_mt M248 35 (i_msk [true, true, true, false, false, false, false, false, false] (i_astI 36)) := sd_msk _ (sd_astI dX8_findMates_35 rfl)
theorem r248_36 : Sd gd_mt M248 36 (i_inc 2 1 39) := sd_iinc dX8_findMates_36 (by decide) (by decide) rfl
theorem r248_39 : Sd gd_mt M248 39 (i_goto 14) := sd_goto dX8_findMates_39 (by decide)
theorem r248_42 : Sd gd_mt M248 42 (i_inc 1 1 45) := sd_iinc dX8_findMates_42 (by decide) (by decide) rfl
theorem r248_45 : Sd gd_mt M248 45 (i_goto 2) := sd_goto dX8_findMates_45 (by decide)
theorem r248_48 : Sd gd_mt M248 48 (i_ald 0 49) := sd_aload_n dX8_findMates_48 rfl rfl
theorem r248_49 : Sd gd_mt M248 49 (i_cV 252 0 8 52) := sd_cV2 e252 cal252 q1927 q1929 (rfl : gd_cl 8 = some _) qs77 dX8_findMates_49 rfl
theorem r248_52 : Sd gd_mt M248 52 (i_msk [true, false, false, false, false, false, false, false, false] (i_ist 1 53)) := sd_msk _ (sd_istore_n dX8_findMates_52 rfl (by decide) rfl)
theorem r248_53 : Sd gd_mt M248 53 (i_ild 1 54) := sd_iload_n dX8_findMates_53 rfl rfl
theorem r248_54 : Sd gd_mt M248 54 (i_cS 253 1 57) := sd_cS2 e253 cal253 q1931 q1932 dX8_findMates_54 rfl
theorem r248_57 : Sd gd_mt M248 57 (i_msk [true, true, false, false, false, false, false, false, false] (i_ist 2 58)) := sd_msk _ (sd_istore_n dX8_findMates_57 rfl (by decide) rfl)
theorem r248_58 : Sd gd_mt M248 58 (i_ald 0 59) := sd_aload_n dX8_findMates_58 rfl rfl
theorem r248_59 : Sd gd_mt M248 59 (i_getR 8 46 62) := sd_getR ck8 (by decide) rfl (.inl q1500) dX8_findMates_59 rfl
theorem r248_62 : Sd gd_mt M248 62 (i_ild 2 63) := sd_iload_n dX8_findMates_62 rfl rfl
theorem r248_63 : Sd gd_mt M248 63 (i_psh (.int 7) 65) := sd_bipush dX8_findMates_63 (by decide) rfl
theorem r248_65 : Sd gd_mt M248 65 (i_ishl 66) := sd_ishl dX8_findMates_65 rfl
theorem r248_66 : Sd gd_mt M248 66 (i_ild 1 67) := sd_iload_n dX8_findMates_66 rfl rfl
theorem r248_67 : Sd gd_mt M248 67 (i_ior 68) := sd_ior dX8_findMates_67 rfl
theorem r248_68 : Sd gd_mt M248 68 (i_aldI 31 69) := sd_iald dX8_findMates_68 rfl
theorem r248_69 : Sd gd_mt M248 69 (i_ist 3 70) := sd_istore_n dX8_findMates_69 rfl (by decide) rfl
theorem r248_70 : Sd gd_mt M248 70 (i_psh (.int 0) 71) := sd_iconst dX8_findMates_70 (by decide) rfl
theorem r248_71 : Sd gd_mt M248 71 (i_ist 4 73) := sd_istore dX8_findMates_71 (by decide) rfl
theorem r248_73 : Sd gd_mt M248 73 (i_msk [true, true, true, true, true, false, false, false, false] (i_ild 4 75)) := sd_msk _ (sd_iload dX8_findMates_73 rfl)
theorem r248_75 : Sd gd_mt M248 75 (i_psh (.int 7) 77) := sd_bipush dX8_findMates_75 (by decide) rfl
def cl248_0 : List (Nat × gd_I) := [(0, i_psh (.int 0) 1), (1, i_ist 1 2), (2, i_msk [true, true, false, false, false, false, false, false, false] (i_ild 1 3)), (3, i_psh (.int 1) 4), (4, i_ald 0 5), (5, i_getI 8 21 8), (8, i_ishl 9), (9, i_icge 48 12), (12, i_psh (.int 0) 13), (13, i_ist 2 14), (14, i_msk [true, true, true, false, false, false, false, false, false] (i_ild 2 15)), (15, i_psh (.int 1) 16), (16, i_icgt 42 19), (19, i_ald 0 20), (20, i_getR 8 46 23), (23, i_ild 2 24), (24, i_psh (.int 7) 26), (26, i_ishl 27), (27, i_ild 1 28), (28, i_ior 29), (29, i_ald 0 30), (30, i_ild 1 31), (31, i_ild 2 32), (32, i_cV 249 2 8 35), (35, i_msk [true, true, true, false, false, false, false, false, false] (i_astI 36)), (36, i_inc 2 1 39), (39, i_goto 14), (42, i_inc 1 1 45), (45, i_goto 2), (48, i_ald 0 49), (49, i_cV 252 0 8 52), (52, i_msk [true, false, false, false, false, false, false, false, false] (i_ist 1 53)), (53, i_ild 1 54), (54, i_cS 253 1 57), (57, i_msk [true, true, false, false, false, false, false, false, false] (i_ist 2 58)), (58, i_ald 0 59), (59, i_getR 8 46 62), (62, i_ild 2 63), (63, i_psh (.int 7) 65), (65, i_ishl 66), (66, i_ild 1 67), (67, i_ior 68), (68, i_aldI 31 69), (69, i_ist 3 70), (70, i_psh (.int 0) 71), (71, i_ist 4 73), (73, i_msk [true, true, true, true, true, false, false, false, false] (i_ild 4 75)), (75, i_psh (.int 7) 77)]
theorem cs248_0 : ∀ q ∈ cl248_0, Sd gd_mt M248 q.1 q.2 := gd_ac r248_0 (gd_ac r248_1 (gd_ac r248_2 (gd_ac r248_3 (gd_ac r248_4 (gd_ac r248_5 (gd_ac r248_8 (gd_ac r248_9 (gd_ac r248_12 (gd_ac r248_13 (gd_ac r248_14 (gd_ac r248_15 (gd_ac r248_16 (gd_ac r248_19 (gd_ac r248_20 (gd_ac r248_23 (gd_ac r248_24 (gd_ac r248_26 (gd_ac r248_27 (gd_ac r248_28 (gd_ac r248_29 (gd_ac r248_30 (gd_ac r248_31 (gd_ac r248_32 (gd_ac r248_35 (gd_ac r248_36 (gd_ac r248_39 (gd_ac r248_42 (gd_ac r248_45 (gd_ac r248_48 (gd_ac r248_49 (gd_ac r248_52 (gd_ac r248_53 (gd_ac r248_54 (gd_ac r248_57 (gd_ac r248_58 (gd_ac r248_59 (gd_ac r248_62 (gd_ac r248_63 (gd_ac r248_65 (gd_ac r248_66 (gd_ac r248_67 (gd_ac r248_68 (gd_ac r248_69 (gd_ac r248_70 (gd_ac r248_71 (gd_ac r248_73 (gd_ac r248_75 (gd_an))))))))))))))))))))))))))))))))))))))))))))))))
theorem r248_77 : Sd gd_mt M248 77 (i_icge 94 80) := sd_icge dX8_findMates_77 (by decide) rfl
theorem r248_80 : Sd gd_mt M248 80 (i_ald 0 81) := sd_aload_n dX8_findMates_80 rfl rfl
theorem r248_81 : Sd gd_mt M248 81 (i_getR 8 47 84) := sd_getR ck8 (by decide) rfl (.inl q1501) dX8_findMates_81 rfl
theorem r248_84 : Sd gd_mt M248 84 (i_ild 4 86) := sd_iload dX8_findMates_84 rfl
theorem r248_86 : Sd gd_mt M248 86 (i_psh (.int (-1)) 87) := sd_iconst dX8_findMates_86 (by decide) rfl
theorem r248_87 : Sd gd_mt M248 87 (i_astI 88) := sd_astI dX8_findMates_87 rfl
theorem r248_88 : Sd gd_mt M248 88 (i_inc 4 1 91) := sd_iinc dX8_findMates_88 (by decide) (by decide) rfl
theorem r248_91 : Sd gd_mt M248 91 (i_goto 73) := sd_goto dX8_findMates_91 (by decide)
theorem r248_94 : Sd gd_mt M248 94 (i_msk [true, true, true, true, false, false, false, false, false] (i_ild 1 95)) := sd_msk _ (sd_iload_n dX8_findMates_94 rfl rfl)
theorem r248_95 : Sd gd_mt M248 95 (i_ifeq 260 98) := sd_ifeq dX8_findMates_95 (by decide) rfl
theorem r248_98 : Sd gd_mt M248 98 (i_ild 1 99) := sd_iload_n dX8_findMates_98 rfl rfl
theorem r248_99 : Sd gd_mt M248 99 (i_cS 250 1 102) := sd_cS2 e250 cal250 q1920 q1921 dX8_findMates_99 rfl
theorem r248_102 : Sd gd_mt M248 102 (i_msk [true, true, true, true, false, false, false, false, false] (i_ist 4 104)) := sd_msk _ (sd_istore dX8_findMates_102 (by decide) rfl)
theorem r248_104 : Sd gd_mt M248 104 (i_ild 1 105) := sd_iload_n dX8_findMates_104 rfl rfl
theorem r248_105 : Sd gd_mt M248 105 (i_psh (.int 1) 106) := sd_iconst dX8_findMates_105 (by decide) rfl
theorem r248_106 : Sd gd_mt M248 106 (i_ild 4 108) := sd_iload dX8_findMates_106 rfl
theorem r248_108 : Sd gd_mt M248 108 (i_ishl 109) := sd_ishl dX8_findMates_108 rfl
theorem r248_109 : Sd gd_mt M248 109 (i_psh (.int (-1)) 110) := sd_iconst dX8_findMates_109 (by decide) rfl
theorem r248_110 : Sd gd_mt M248 110 (i_ixor 111) := sd_ixor dX8_findMates_110 rfl
theorem r248_111 : Sd gd_mt M248 111 (i_iand 112) := sd_iand dX8_findMates_111 rfl
theorem r248_112 : Sd gd_mt M248 112 (i_ist 5 114) := sd_istore dX8_findMates_112 (by decide) rfl
theorem r248_114 : Sd gd_mt M248 114 (i_psh (.int (-1)) 115) := sd_iconst dX8_findMates_114 (by decide) rfl
theorem r248_115 : Sd gd_mt M248 115 (i_ist 6 117) := sd_istore dX8_findMates_115 (by decide) rfl
theorem r248_117 : Sd gd_mt M248 117 (i_ald 0 118) := sd_aload_n dX8_findMates_117 rfl rfl
theorem r248_118 : Sd gd_mt M248 118 (i_getI 8 21 121) := sd_getI ck8 (by decide) rfl (.inl q1475) dX8_findMates_118 rfl
theorem r248_121 : Sd gd_mt M248 121 (i_psh (.int 1) 122) := sd_iconst dX8_findMates_121 (by decide) rfl
theorem r248_122 : Sd gd_mt M248 122 (i_isub 123) := sd_isub dX8_findMates_122 rfl
theorem r248_123 : Sd gd_mt M248 123 (i_ist 7 125) := sd_istore dX8_findMates_123 (by decide) rfl
theorem r248_125 : Sd gd_mt M248 125 (i_msk [true, true, true, true, true, true, true, true, false] (i_ild 7 127)) := sd_msk _ (sd_iload dX8_findMates_125 rfl)
theorem r248_127 : Sd gd_mt M248 127 (i_ild 4 129) := sd_iload dX8_findMates_127 rfl
theorem r248_129 : Sd gd_mt M248 129 (i_icle 207 132) := sd_icle dX8_findMates_129 (by decide) rfl
theorem r248_132 : Sd gd_mt M248 132 (i_ild 5 134) := sd_iload dX8_findMates_132 rfl
theorem r248_134 : Sd gd_mt M248 134 (i_ild 7 136) := sd_iload dX8_findMates_134 rfl
theorem r248_136 : Sd gd_mt M248 136 (i_ishr 137) := sd_ishr dX8_findMates_136 rfl
theorem r248_137 : Sd gd_mt M248 137 (i_psh (.int 1) 138) := sd_iconst dX8_findMates_137 (by decide) rfl
theorem r248_138 : Sd gd_mt M248 138 (i_iand 139) := sd_iand dX8_findMates_138 rfl
theorem r248_139 : Sd gd_mt M248 139 (i_ifne 145 142) := sd_ifne dX8_findMates_139 (by decide) rfl
theorem r248_142 : Sd gd_mt M248 142 (i_goto 201) := sd_goto dX8_findMates_142 (by decide)
theorem r248_145 : Sd gd_mt M248 145 (i_ald 0 146) := sd_aload_n dX8_findMates_145 rfl rfl
theorem r248_146 : Sd gd_mt M248 146 (i_getR 8 46 149) := sd_getR ck8 (by decide) rfl (.inl q1500) dX8_findMates_146 rfl
theorem r248_149 : Sd gd_mt M248 149 (i_ild 2 150) := sd_iload_n dX8_findMates_149 rfl rfl
theorem r248_150 : Sd gd_mt M248 150 (i_psh (.int 7) 152) := sd_bipush dX8_findMates_150 (by decide) rfl
theorem r248_152 : Sd gd_mt M248 152 (i_ishl 153) := sd_ishl dX8_findMates_152 rfl
theorem r248_153 : Sd gd_mt M248 153 (i_ild 5 155) := sd_iload dX8_findMates_153 rfl
theorem r248_155 : Sd gd_mt M248 155 (i_psh (.int 1) 156) := sd_iconst dX8_findMates_155 (by decide) rfl
theorem r248_156 : Sd gd_mt M248 156 (i_ild 7 158) := sd_iload dX8_findMates_156 rfl
theorem r248_158 : Sd gd_mt M248 158 (i_ishl 159) := sd_ishl dX8_findMates_158 rfl
theorem r248_159 : Sd gd_mt M248 159 (i_psh (.int (-1)) 160) := sd_iconst dX8_findMates_159 (by decide) rfl
def cl248_1 : List (Nat × gd_I) := [(77, i_icge 94 80), (80, i_ald 0 81), (81, i_getR 8 47 84), (84, i_ild 4 86), (86, i_psh (.int (-1)) 87), (87, i_astI 88), (88, i_inc 4 1 91), (91, i_goto 73), (94, i_msk [true, true, true, true, false, false, false, false, false] (i_ild 1 95)), (95, i_ifeq 260 98), (98, i_ild 1 99), (99, i_cS 250 1 102), (102, i_msk [true, true, true, true, false, false, false, false, false] (i_ist 4 104)), (104, i_ild 1 105), (105, i_psh (.int 1) 106), (106, i_ild 4 108), (108, i_ishl 109), (109, i_psh (.int (-1)) 110), (110, i_ixor 111), (111, i_iand 112), (112, i_ist 5 114), (114, i_psh (.int (-1)) 115), (115, i_ist 6 117), (117, i_ald 0 118), (118, i_getI 8 21 121), (121, i_psh (.int 1) 122), (122, i_isub 123), (123, i_ist 7 125), (125, i_msk [true, true, true, true, true, true, true, true, false] (i_ild 7 127)), (127, i_ild 4 129), (129, i_icle 207 132), (132, i_ild 5 134), (134, i_ild 7 136), (136, i_ishr 137), (137, i_psh (.int 1) 138), (138, i_iand 139), (139, i_ifne 145 142), (142, i_goto 201), (145, i_ald 0 146), (146, i_getR 8 46 149), (149, i_ild 2 150), (150, i_psh (.int 7) 152), (152, i_ishl 153), (153, i_ild 5 155), (155, i_psh (.int 1) 156), (156, i_ild 7 158), (158, i_ishl 159), (159, i_psh (.int (-1)) 160)]
theorem cs248_1 : ∀ q ∈ cl248_1, Sd gd_mt M248 q.1 q.2 := gd_ac r248_77 (gd_ac r248_80 (gd_ac r248_81 (gd_ac r248_84 (gd_ac r248_86 (gd_ac r248_87 (gd_ac r248_88 (gd_ac r248_91 (gd_ac r248_94 (gd_ac r248_95 (gd_ac r248_98 (gd_ac r248_99 (gd_ac r248_102 (gd_ac r248_104 (gd_ac r248_105 (gd_ac r248_106 (gd_ac r248_108 (gd_ac r248_109 (gd_ac r248_110 (gd_ac r248_111 (gd_ac r248_112 (gd_ac r248_114 (gd_ac r248_115 (gd_ac r248_117 (gd_ac r248_118 (gd_ac r248_121 (gd_ac r248_122 (gd_ac r248_123 (gd_ac r248_125 (gd_ac r248_127 (gd_ac r248_129 (gd_ac r248_132 (gd_ac r248_134 (gd_ac r248_136 (gd_ac r248_137 (gd_ac r248_138 (gd_ac r248_139 (gd_ac r248_142 (gd_ac r248_145 (gd_ac r248_146 (gd_ac r248_149 (gd_ac r248_150 (gd_ac r248_152 (gd_ac r248_153 (gd_ac r248_155 (gd_ac r248_156 (gd_ac r248_158 (gd_ac r248_159 (gd_an))))))))))))))))))))))))))))))))))))))))))))))))
theorem r248_160 : Sd gd_mt M248 160 (i_ixor 161) := sd_ixor dX8_findMates_160 rfl
theorem r248_161 : Sd gd_mt M248 161 (i_iand 162) := sd_iand dX8_findMates_161 rfl
theorem r248_162 : Sd gd_mt M248 162 (i_ior 163) := sd_ior dX8_findMates_162 rfl
theorem r248_163 : Sd gd_mt M248 163 (i_aldI 31 164) := sd_iald dX8_findMates_163 rfl
theorem r248_164 : Sd gd_mt M248 164 (i_ist 8 166) := sd_istore dX8_findMates_164 (by decide) rfl
theorem r248_166 : Sd gd_mt M248 166 (i_ild 8 168) := sd_iload dX8_findMates_166 rfl
theorem r248_168 : Sd gd_mt M248 168 (i_psh (.int (-1)) 169) := sd_iconst dX8_findMates_168 (by decide) rfl
theorem r248_169 : Sd gd_mt M248 169 (i_iceq 201 172) := sd_iceq dX8_findMates_169 (by decide) rfl
theorem r248_172 : Sd gd_mt M248 172 (i_ild 8 174) := sd_iload dX8_findMates_172 rfl
theorem r248_174 : Sd gd_mt M248 174 (i_ald 0 175) := sd_aload_n dX8_findMates_174 rfl rfl
theorem r248_175 : Sd gd_mt M248 175 (i_ild 4 177) := sd_iload dX8_findMates_175 rfl
theorem r248_177 : Sd gd_mt M248 177 (i_ild 7 179) := sd_iload dX8_findMates_177 rfl
theorem r248_179 : Sd gd_mt M248 179 (i_cV 251 2 8 182) := sd_cV2 e251 cal251 q1923 q1925 (rfl : gd_cl 8 = some _) qs76 dX8_findMates_179 rfl
theorem r248_182 : Sd gd_mt M248 182 (i_msk [true, true, true, true, true, true, true, true, false] (i_iadd 183)) := sd_msk _ (sd_iadd dX8_findMates_182 rfl)
theorem r248_183 : Sd gd_mt M248 183 (i_ald 0 184) := sd_aload_n dX8_findMates_183 rfl rfl
theorem r248_184 : Sd gd_mt M248 184 (i_getR 8 46 187) := sd_getR ck8 (by decide) rfl (.inl q1500) dX8_findMates_184 rfl
theorem r248_187 : Sd gd_mt M248 187 (i_ild 2 188) := sd_iload_n dX8_findMates_187 rfl rfl
theorem r248_188 : Sd gd_mt M248 188 (i_psh (.int 7) 190) := sd_bipush dX8_findMates_188 (by decide) rfl
theorem r248_190 : Sd gd_mt M248 190 (i_ishl 191) := sd_ishl dX8_findMates_190 rfl
theorem r248_191 : Sd gd_mt M248 191 (i_ild 1 192) := sd_iload_n dX8_findMates_191 rfl rfl
theorem r248_192 : Sd gd_mt M248 192 (i_ior 193) := sd_ior dX8_findMates_192 rfl
theorem r248_193 : Sd gd_mt M248 193 (i_aldI 31 194) := sd_iald dX8_findMates_193 rfl
theorem r248_194 : Sd gd_mt M248 194 (i_icne 201 197) := sd_icne dX8_findMates_194 (by decide) rfl
theorem r248_197 : Sd gd_mt M248 197 (i_ild 7 199) := sd_iload dX8_findMates_197 rfl
theorem r248_199 : Sd gd_mt M248 199 (i_ist 6 201) := sd_istore dX8_findMates_199 (by decide) rfl
theorem r248_201 : Sd gd_mt M248 201 (i_msk [true, true, true, true, true, true, true, true, false] (i_inc 7 (-1) 204)) := sd_msk _ (sd_iinc dX8_findMates_201 (by decide) (by decide) rfl)
theorem r248_204 : Sd gd_mt M248 204 (i_goto 125) := sd_goto dX8_findMates_204 (by decide)
theorem r248_207 : Sd gd_mt M248 207 (i_ald 0 208) := sd_aload_n dX8_findMates_207 rfl rfl
theorem r248_208 : Sd gd_mt M248 208 (i_getR 8 47 211) := sd_getR ck8 (by decide) rfl (.inl q1501) dX8_findMates_208 rfl
theorem r248_211 : Sd gd_mt M248 211 (i_ild 4 213) := sd_iload dX8_findMates_211 rfl
theorem r248_213 : Sd gd_mt M248 213 (i_ild 6 215) := sd_iload dX8_findMates_213 rfl
theorem r248_215 : Sd gd_mt M248 215 (i_astI 216) := sd_astI dX8_findMates_215 rfl
theorem r248_216 : Sd gd_mt M248 216 (i_ild 6 218) := sd_iload dX8_findMates_216 rfl
theorem r248_218 : Sd gd_mt M248 218 (i_psh (.int (-1)) 219) := sd_iconst dX8_findMates_218 (by decide) rfl
theorem r248_219 : Sd gd_mt M248 219 (i_icne 227 222) := sd_icne dX8_findMates_219 (by decide) rfl
theorem r248_222 : Sd gd_mt M248 222 (i_psh (.int 0) 223) := sd_iconst dX8_findMates_222 (by decide) rfl
theorem r248_223 : Sd gd_mt M248 223 (i_ist 2 224) := sd_istore_n dX8_findMates_223 rfl (by decide) rfl
theorem r248_224 : Sd gd_mt M248 224 (i_goto 236) := sd_goto dX8_findMates_224 (by decide)
theorem r248_227 : Sd gd_mt M248 227 (i_ald 0 228) := sd_aload_n dX8_findMates_227 rfl rfl
theorem r248_228 : Sd gd_mt M248 228 (i_getR 8 47 231) := sd_getR ck8 (by decide) rfl (.inl q1501) dX8_findMates_228 rfl
theorem r248_231 : Sd gd_mt M248 231 (i_ild 6 233) := sd_iload dX8_findMates_231 rfl
theorem r248_233 : Sd gd_mt M248 233 (i_ild 4 235) := sd_iload dX8_findMates_233 rfl
theorem r248_235 : Sd gd_mt M248 235 (i_astI 236) := sd_astI dX8_findMates_235 rfl
theorem r248_236 : Sd gd_mt M248 236 (i_msk [true, false, true, true, false, true, true, false, false] (i_ild 6 238)) := sd_msk _ (sd_iload dX8_findMates_236 rfl)
theorem r248_238 : Sd gd_mt M248 238 (i_psh (.int (-1)) 239) := sd_iconst dX8_findMates_238 (by decide) rfl
theorem r248_239 : Sd gd_mt M248 239 (i_icne 247 242) := sd_icne dX8_findMates_239 (by decide) rfl
theorem r248_242 : Sd gd_mt M248 242 (i_ild 5 244) := sd_iload dX8_findMates_242 rfl
theorem r248_244 : Sd gd_mt M248 244 (i_goto 256) := sd_goto dX8_findMates_244 (by decide)
def cl248_2 : List (Nat × gd_I) := [(160, i_ixor 161), (161, i_iand 162), (162, i_ior 163), (163, i_aldI 31 164), (164, i_ist 8 166), (166, i_ild 8 168), (168, i_psh (.int (-1)) 169), (169, i_iceq 201 172), (172, i_ild 8 174), (174, i_ald 0 175), (175, i_ild 4 177), (177, i_ild 7 179), (179, i_cV 251 2 8 182), (182, i_msk [true, true, true, true, true, true, true, true, false] (i_iadd 183)), (183, i_ald 0 184), (184, i_getR 8 46 187), (187, i_ild 2 188), (188, i_psh (.int 7) 190), (190, i_ishl 191), (191, i_ild 1 192), (192, i_ior 193), (193, i_aldI 31 194), (194, i_icne 201 197), (197, i_ild 7 199), (199, i_ist 6 201), (201, i_msk [true, true, true, true, true, true, true, true, false] (i_inc 7 (-1) 204)), (204, i_goto 125), (207, i_ald 0 208), (208, i_getR 8 47 211), (211, i_ild 4 213), (213, i_ild 6 215), (215, i_astI 216), (216, i_ild 6 218), (218, i_psh (.int (-1)) 219), (219, i_icne 227 222), (222, i_psh (.int 0) 223), (223, i_ist 2 224), (224, i_goto 236), (227, i_ald 0 228), (228, i_getR 8 47 231), (231, i_ild 6 233), (233, i_ild 4 235), (235, i_astI 236), (236, i_msk [true, false, true, true, false, true, true, false, false] (i_ild 6 238)), (238, i_psh (.int (-1)) 239), (239, i_icne 247 242), (242, i_ild 5 244), (244, i_goto 256)]
theorem cs248_2 : ∀ q ∈ cl248_2, Sd gd_mt M248 q.1 q.2 := gd_ac r248_160 (gd_ac r248_161 (gd_ac r248_162 (gd_ac r248_163 (gd_ac r248_164 (gd_ac r248_166 (gd_ac r248_168 (gd_ac r248_169 (gd_ac r248_172 (gd_ac r248_174 (gd_ac r248_175 (gd_ac r248_177 (gd_ac r248_179 (gd_ac r248_182 (gd_ac r248_183 (gd_ac r248_184 (gd_ac r248_187 (gd_ac r248_188 (gd_ac r248_190 (gd_ac r248_191 (gd_ac r248_192 (gd_ac r248_193 (gd_ac r248_194 (gd_ac r248_197 (gd_ac r248_199 (gd_ac r248_201 (gd_ac r248_204 (gd_ac r248_207 (gd_ac r248_208 (gd_ac r248_211 (gd_ac r248_213 (gd_ac r248_215 (gd_ac r248_216 (gd_ac r248_218 (gd_ac r248_219 (gd_ac r248_222 (gd_ac r248_223 (gd_ac r248_224 (gd_ac r248_227 (gd_ac r248_228 (gd_ac r248_231 (gd_ac r248_233 (gd_ac r248_235 (gd_ac r248_236 (gd_ac r248_238 (gd_ac r248_239 (gd_ac r248_242 (gd_ac r248_244 (gd_an))))))))))))))))))))))))))))))))))))))))))))))))
theorem r248_247 : Sd gd_mt M248 247 (i_ild 5 249) := sd_iload dX8_findMates_247 rfl
theorem r248_249 : Sd gd_mt M248 249 (i_psh (.int 1) 250) := sd_iconst dX8_findMates_249 (by decide) rfl
theorem r248_250 : Sd gd_mt M248 250 (i_ild 6 252) := sd_iload dX8_findMates_250 rfl
theorem r248_252 : Sd gd_mt M248 252 (i_ishl 253) := sd_ishl dX8_findMates_252 rfl
theorem r248_253 : Sd gd_mt M248 253 (i_psh (.int (-1)) 254) := sd_iconst dX8_findMates_253 (by decide) rfl
theorem r248_254 : Sd gd_mt M248 254 (i_ixor 255) := sd_ixor dX8_findMates_254 rfl
theorem r248_255 : Sd gd_mt M248 255 (i_iand 256) := sd_iand dX8_findMates_255 rfl
theorem r248_256 : Sd gd_mt M248 256 (i_msk [true, false, true, true, false, false, false, false, false] (i_ist 1 257)) := sd_msk _ (sd_istore_n dX8_findMates_256 rfl (by decide) rfl)
theorem r248_257 : Sd gd_mt M248 257 (i_goto 94) := sd_goto dX8_findMates_257 (by decide)
theorem r248_260 : Sd gd_mt M248 260 (i_ild 3 261) := sd_iload_n dX8_findMates_260 rfl rfl
theorem r248_261 : Sd gd_mt M248 261 (i_iret) := sd_iret rfl dX8_findMates_261
def cl248_3 : List (Nat × gd_I) := [(247, i_ild 5 249), (249, i_psh (.int 1) 250), (250, i_ild 6 252), (252, i_ishl 253), (253, i_psh (.int (-1)) 254), (254, i_ixor 255), (255, i_iand 256), (256, i_msk [true, false, true, true, false, false, false, false, false] (i_ist 1 257)), (257, i_goto 94), (260, i_ild 3 261), (261, i_iret)]
theorem cs248_3 : ∀ q ∈ cl248_3, Sd gd_mt M248 q.1 q.2 := gd_ac r248_247 (gd_ac r248_249 (gd_ac r248_250 (gd_ac r248_252 (gd_ac r248_253 (gd_ac r248_254 (gd_ac r248_255 (gd_ac r248_256 (gd_ac r248_257 (gd_ac r248_260 (gd_ac r248_261 (gd_an)))))))))))
def cd248 (pc : Nat) : gd_I := if pc < 77 then lkI cl248_0 pc else if pc < 160 then lkI cl248_1 pc else if pc < 247 then lkI cl248_2 pc else lkI cl248_3 pc
theorem cg248 : ∀ pc, Sd gd_mt M248 pc (cd248 pc) := by
  intro pc
  unfold cd248
  by_cases h0 : pc < 77
  · rw [if_pos h0]; exact sd_lk cs248_0 pc
  rw [if_neg h0]
  by_cases h1 : pc < 160
  · rw [if_pos h1]; exact sd_lk cs248_1 pc
  rw [if_neg h1]
  by_cases h2 : pc < 247
  · rw [if_pos h2]; exact sd_lk cs248_2 pc
  rw [if_neg h2]
  exact sd_lk cs248_3 pc
theorem r249_0 : Sd gd_mt M249 0 (i_ild 1 1) := sd_iload_n dX8_layMates_0 rfl rfl
theorem r249_1 : Sd gd_mt M249 1 (i_ifne 14 4) := sd_ifne dX8_layMates_1 (by decide) rfl
theorem r249_4 : Sd gd_mt M249 4 (i_ild 2 5) := sd_iload_n dX8_layMates_4 rfl rfl
theorem r249_5 : Sd gd_mt M249 5 (i_ifne 12 8) := sd_ifne dX8_layMates_5 (by decide) rfl
theorem r249_8 : Sd gd_mt M249 8 (i_psh (.int 0) 9) := sd_iconst dX8_layMates_8 (by decide) rfl
theorem r249_9 : Sd gd_mt M249 9 (i_goto 13) := sd_goto dX8_layMates_9 (by decide)
theorem r249_12 : Sd gd_mt M249 12 (i_psh (.int (-1)) 13) := sd_iconst dX8_layMates_12 (by decide) rfl
theorem r249_13 : Sd gd_mt M249 13 (i_msk [false, false, false, false, false, false, false, false, false] (i_iret)) := sd_msk _ (sd_iret rfl dX8_layMates_13)
theorem r249_14 : Sd gd_mt M249 14 (i_ild 1 15) := sd_iload_n dX8_layMates_14 rfl rfl
theorem r249_15 : Sd gd_mt M249 15 (i_cS 250 1 18) := sd_cS2 e250 cal250 q1920 q1921 dX8_layMates_15 rfl
theorem r249_18 : Sd gd_mt M249 18 (i_msk [true, true, true, false, false, false, false, false, false] (i_ist 3 19)) := sd_msk _ (sd_istore_n dX8_layMates_18 rfl (by decide) rfl)
theorem r249_19 : Sd gd_mt M249 19 (i_ild 1 20) := sd_iload_n dX8_layMates_19 rfl rfl
theorem r249_20 : Sd gd_mt M249 20 (i_psh (.int 1) 21) := sd_iconst dX8_layMates_20 (by decide) rfl
theorem r249_21 : Sd gd_mt M249 21 (i_ild 3 22) := sd_iload_n dX8_layMates_21 rfl rfl
theorem r249_22 : Sd gd_mt M249 22 (i_ishl 23) := sd_ishl dX8_layMates_22 rfl
theorem r249_23 : Sd gd_mt M249 23 (i_psh (.int (-1)) 24) := sd_iconst dX8_layMates_23 (by decide) rfl
theorem r249_24 : Sd gd_mt M249 24 (i_ixor 25) := sd_ixor dX8_layMates_24 rfl
theorem r249_25 : Sd gd_mt M249 25 (i_iand 26) := sd_iand dX8_layMates_25 rfl
theorem r249_26 : Sd gd_mt M249 26 (i_ist 4 28) := sd_istore dX8_layMates_26 (by decide) rfl
theorem r249_28 : Sd gd_mt M249 28 (i_ild 2 29) := sd_iload_n dX8_layMates_28 rfl rfl
theorem r249_29 : Sd gd_mt M249 29 (i_psh (.int 1) 30) := sd_iconst dX8_layMates_29 (by decide) rfl
theorem r249_30 : Sd gd_mt M249 30 (i_icne 43 33) := sd_icne dX8_layMates_30 (by decide) rfl
theorem r249_33 : Sd gd_mt M249 33 (i_ald 0 34) := sd_aload_n dX8_layMates_33 rfl rfl
theorem r249_34 : Sd gd_mt M249 34 (i_getR 8 46 37) := sd_getR ck8 (by decide) rfl (.inl q1500) dX8_layMates_34 rfl
theorem r249_37 : Sd gd_mt M249 37 (i_ild 4 39) := sd_iload dX8_layMates_37 rfl
theorem r249_39 : Sd gd_mt M249 39 (i_aldI 31 40) := sd_iald dX8_layMates_39 rfl
theorem r249_40 : Sd gd_mt M249 40 (i_goto 44) := sd_goto dX8_layMates_40 (by decide)
theorem r249_43 : Sd gd_mt M249 43 (i_psh (.int (-1)) 44) := sd_iconst dX8_layMates_43 (by decide) rfl
theorem r249_44 : Sd gd_mt M249 44 (i_msk [true, false, true, true, true, false, false, false, false] (i_ist 5 46)) := sd_msk _ (sd_istore dX8_layMates_44 (by decide) rfl)
theorem r249_46 : Sd gd_mt M249 46 (i_ild 3 47) := sd_iload_n dX8_layMates_46 rfl rfl
theorem r249_47 : Sd gd_mt M249 47 (i_psh (.int 1) 48) := sd_iconst dX8_layMates_47 (by decide) rfl
theorem r249_48 : Sd gd_mt M249 48 (i_iadd 49) := sd_iadd dX8_layMates_48 rfl
theorem r249_49 : Sd gd_mt M249 49 (i_ist 6 51) := sd_istore dX8_layMates_49 (by decide) rfl
theorem r249_51 : Sd gd_mt M249 51 (i_msk [true, false, true, true, true, true, true, false, false] (i_ild 6 53)) := sd_msk _ (sd_iload dX8_layMates_51 rfl)
theorem r249_53 : Sd gd_mt M249 53 (i_ald 0 54) := sd_aload_n dX8_layMates_53 rfl rfl
theorem r249_54 : Sd gd_mt M249 54 (i_getI 8 21 57) := sd_getI ck8 (by decide) rfl (.inl q1475) dX8_layMates_54 rfl
theorem r249_57 : Sd gd_mt M249 57 (i_icge 143 60) := sd_icge dX8_layMates_57 (by decide) rfl
theorem r249_60 : Sd gd_mt M249 60 (i_ild 4 62) := sd_iload dX8_layMates_60 rfl
theorem r249_62 : Sd gd_mt M249 62 (i_ild 6 64) := sd_iload dX8_layMates_62 rfl
theorem r249_64 : Sd gd_mt M249 64 (i_ishr 65) := sd_ishr dX8_layMates_64 rfl
theorem r249_65 : Sd gd_mt M249 65 (i_psh (.int 1) 66) := sd_iconst dX8_layMates_65 (by decide) rfl
theorem r249_66 : Sd gd_mt M249 66 (i_iand 67) := sd_iand dX8_layMates_66 rfl
theorem r249_67 : Sd gd_mt M249 67 (i_ifne 73 70) := sd_ifne dX8_layMates_67 (by decide) rfl
theorem r249_70 : Sd gd_mt M249 70 (i_goto 137) := sd_goto dX8_layMates_70 (by decide)
theorem r249_73 : Sd gd_mt M249 73 (i_ald 0 74) := sd_aload_n dX8_layMates_73 rfl rfl
theorem r249_74 : Sd gd_mt M249 74 (i_getR 8 46 77) := sd_getR ck8 (by decide) rfl (.inl q1500) dX8_layMates_74 rfl
theorem r249_77 : Sd gd_mt M249 77 (i_ild 2 78) := sd_iload_n dX8_layMates_77 rfl rfl
theorem r249_78 : Sd gd_mt M249 78 (i_psh (.int 7) 80) := sd_bipush dX8_layMates_78 (by decide) rfl
def cl249_0 : List (Nat × gd_I) := [(0, i_ild 1 1), (1, i_ifne 14 4), (4, i_ild 2 5), (5, i_ifne 12 8), (8, i_psh (.int 0) 9), (9, i_goto 13), (12, i_psh (.int (-1)) 13), (13, i_msk [false, false, false, false, false, false, false, false, false] (i_iret)), (14, i_ild 1 15), (15, i_cS 250 1 18), (18, i_msk [true, true, true, false, false, false, false, false, false] (i_ist 3 19)), (19, i_ild 1 20), (20, i_psh (.int 1) 21), (21, i_ild 3 22), (22, i_ishl 23), (23, i_psh (.int (-1)) 24), (24, i_ixor 25), (25, i_iand 26), (26, i_ist 4 28), (28, i_ild 2 29), (29, i_psh (.int 1) 30), (30, i_icne 43 33), (33, i_ald 0 34), (34, i_getR 8 46 37), (37, i_ild 4 39), (39, i_aldI 31 40), (40, i_goto 44), (43, i_psh (.int (-1)) 44), (44, i_msk [true, false, true, true, true, false, false, false, false] (i_ist 5 46)), (46, i_ild 3 47), (47, i_psh (.int 1) 48), (48, i_iadd 49), (49, i_ist 6 51), (51, i_msk [true, false, true, true, true, true, true, false, false] (i_ild 6 53)), (53, i_ald 0 54), (54, i_getI 8 21 57), (57, i_icge 143 60), (60, i_ild 4 62), (62, i_ild 6 64), (64, i_ishr 65), (65, i_psh (.int 1) 66), (66, i_iand 67), (67, i_ifne 73 70), (70, i_goto 137), (73, i_ald 0 74), (74, i_getR 8 46 77), (77, i_ild 2 78), (78, i_psh (.int 7) 80)]
theorem cs249_0 : ∀ q ∈ cl249_0, Sd gd_mt M249 q.1 q.2 := gd_ac r249_0 (gd_ac r249_1 (gd_ac r249_4 (gd_ac r249_5 (gd_ac r249_8 (gd_ac r249_9 (gd_ac r249_12 (gd_ac r249_13 (gd_ac r249_14 (gd_ac r249_15 (gd_ac r249_18 (gd_ac r249_19 (gd_ac r249_20 (gd_ac r249_21 (gd_ac r249_22 (gd_ac r249_23 (gd_ac r249_24 (gd_ac r249_25 (gd_ac r249_26 (gd_ac r249_28 (gd_ac r249_29 (gd_ac r249_30 (gd_ac r249_33 (gd_ac r249_34 (gd_ac r249_37 (gd_ac r249_39 (gd_ac r249_40 (gd_ac r249_43 (gd_ac r249_44 (gd_ac r249_46 (gd_ac r249_47 (gd_ac r249_48 (gd_ac r249_49 (gd_ac r249_51 (gd_ac r249_53 (gd_ac r249_54 (gd_ac r249_57 (gd_ac r249_60 (gd_ac r249_62 (gd_ac r249_64 (gd_ac r249_65 (gd_ac r249_66 (gd_ac r249_67 (gd_ac r249_70 (gd_ac r249_73 (gd_ac r249_74 (gd_ac r249_77 (gd_ac r249_78 (gd_an))))))))))))))))))))))))))))))))))))))))))))))))
theorem r249_80 : Sd gd_mt M249 80 (i_ishl 81) := sd_ishl dX8_layMates_80 rfl
theorem r249_81 : Sd gd_mt M249 81 (i_ild 4 83) := sd_iload dX8_layMates_81 rfl
theorem r249_83 : Sd gd_mt M249 83 (i_psh (.int 1) 84) := sd_iconst dX8_layMates_83 (by decide) rfl
theorem r249_84 : Sd gd_mt M249 84 (i_ild 6 86) := sd_iload dX8_layMates_84 rfl
theorem r249_86 : Sd gd_mt M249 86 (i_ishl 87) := sd_ishl dX8_layMates_86 rfl
theorem r249_87 : Sd gd_mt M249 87 (i_psh (.int (-1)) 88) := sd_iconst dX8_layMates_87 (by decide) rfl
theorem r249_88 : Sd gd_mt M249 88 (i_ixor 89) := sd_ixor dX8_layMates_88 rfl
theorem r249_89 : Sd gd_mt M249 89 (i_iand 90) := sd_iand dX8_layMates_89 rfl
theorem r249_90 : Sd gd_mt M249 90 (i_ior 91) := sd_ior dX8_layMates_90 rfl
theorem r249_91 : Sd gd_mt M249 91 (i_aldI 31 92) := sd_iald dX8_layMates_91 rfl
theorem r249_92 : Sd gd_mt M249 92 (i_ist 7 94) := sd_istore dX8_layMates_92 (by decide) rfl
theorem r249_94 : Sd gd_mt M249 94 (i_ild 7 96) := sd_iload dX8_layMates_94 rfl
theorem r249_96 : Sd gd_mt M249 96 (i_psh (.int (-1)) 97) := sd_iconst dX8_layMates_96 (by decide) rfl
theorem r249_97 : Sd gd_mt M249 97 (i_icne 103 100) := sd_icne dX8_layMates_97 (by decide) rfl
theorem r249_100 : Sd gd_mt M249 100 (i_goto 137) := sd_goto dX8_layMates_100 (by decide)
theorem r249_103 : Sd gd_mt M249 103 (i_ild 7 105) := sd_iload dX8_layMates_103 rfl
theorem r249_105 : Sd gd_mt M249 105 (i_ald 0 106) := sd_aload_n dX8_layMates_105 rfl rfl
theorem r249_106 : Sd gd_mt M249 106 (i_ild 3 107) := sd_iload_n dX8_layMates_106 rfl rfl
theorem r249_107 : Sd gd_mt M249 107 (i_ild 6 109) := sd_iload dX8_layMates_107 rfl
theorem r249_109 : Sd gd_mt M249 109 (i_cV 251 2 8 112) := sd_cV2 e251 cal251 q1923 q1925 (rfl : gd_cl 8 = some _) qs76 dX8_layMates_109 rfl
theorem r249_112 : Sd gd_mt M249 112 (i_msk [true, false, true, true, true, true, true, false, false] (i_iadd 113)) := sd_msk _ (sd_iadd dX8_layMates_112 rfl)
theorem r249_113 : Sd gd_mt M249 113 (i_ist 8 115) := sd_istore dX8_layMates_113 (by decide) rfl
theorem r249_115 : Sd gd_mt M249 115 (i_ild 5 117) := sd_iload dX8_layMates_115 rfl
theorem r249_117 : Sd gd_mt M249 117 (i_psh (.int (-1)) 118) := sd_iconst dX8_layMates_117 (by decide) rfl
theorem r249_118 : Sd gd_mt M249 118 (i_iceq 128 121) := sd_iceq dX8_layMates_118 (by decide) rfl
theorem r249_121 : Sd gd_mt M249 121 (i_ild 8 123) := sd_iload dX8_layMates_121 rfl
theorem r249_123 : Sd gd_mt M249 123 (i_ild 5 125) := sd_iload dX8_layMates_123 rfl
theorem r249_125 : Sd gd_mt M249 125 (i_icge 133 128) := sd_icge dX8_layMates_125 (by decide) rfl
theorem r249_128 : Sd gd_mt M249 128 (i_msk [true, false, true, true, true, false, true, false, true] (i_ild 8 130)) := sd_msk _ (sd_iload dX8_layMates_128 rfl)
theorem r249_130 : Sd gd_mt M249 130 (i_goto 135) := sd_goto dX8_layMates_130 (by decide)
theorem r249_133 : Sd gd_mt M249 133 (i_ild 5 135) := sd_iload dX8_layMates_133 rfl
theorem r249_135 : Sd gd_mt M249 135 (i_msk [true, false, true, true, true, false, true, false, false] (i_ist 5 137)) := sd_msk _ (sd_istore dX8_layMates_135 (by decide) rfl)
theorem r249_137 : Sd gd_mt M249 137 (i_msk [true, false, true, true, true, true, true, false, false] (i_inc 6 1 140)) := sd_msk _ (sd_iinc dX8_layMates_137 (by decide) (by decide) rfl)
theorem r249_140 : Sd gd_mt M249 140 (i_goto 51) := sd_goto dX8_layMates_140 (by decide)
theorem r249_143 : Sd gd_mt M249 143 (i_ild 5 145) := sd_iload dX8_layMates_143 rfl
theorem r249_145 : Sd gd_mt M249 145 (i_iret) := sd_iret rfl dX8_layMates_145
def cl249_1 : List (Nat × gd_I) := [(80, i_ishl 81), (81, i_ild 4 83), (83, i_psh (.int 1) 84), (84, i_ild 6 86), (86, i_ishl 87), (87, i_psh (.int (-1)) 88), (88, i_ixor 89), (89, i_iand 90), (90, i_ior 91), (91, i_aldI 31 92), (92, i_ist 7 94), (94, i_ild 7 96), (96, i_psh (.int (-1)) 97), (97, i_icne 103 100), (100, i_goto 137), (103, i_ild 7 105), (105, i_ald 0 106), (106, i_ild 3 107), (107, i_ild 6 109), (109, i_cV 251 2 8 112), (112, i_msk [true, false, true, true, true, true, true, false, false] (i_iadd 113)), (113, i_ist 8 115), (115, i_ild 5 117), (117, i_psh (.int (-1)) 118), (118, i_iceq 128 121), (121, i_ild 8 123), (123, i_ild 5 125), (125, i_icge 133 128), (128, i_msk [true, false, true, true, true, false, true, false, true] (i_ild 8 130)), (130, i_goto 135), (133, i_ild 5 135), (135, i_msk [true, false, true, true, true, false, true, false, false] (i_ist 5 137)), (137, i_msk [true, false, true, true, true, true, true, false, false] (i_inc 6 1 140)), (140, i_goto 51), (143, i_ild 5 145), (145, i_iret)]
theorem cs249_1 : ∀ q ∈ cl249_1, Sd gd_mt M249 q.1 q.2 := gd_ac r249_80 (gd_ac r249_81 (gd_ac r249_83 (gd_ac r249_84 (gd_ac r249_86 (gd_ac r249_87 (gd_ac r249_88 (gd_ac r249_89 (gd_ac r249_90 (gd_ac r249_91 (gd_ac r249_92 (gd_ac r249_94 (gd_ac r249_96 (gd_ac r249_97 (gd_ac r249_100 (gd_ac r249_103 (gd_ac r249_105 (gd_ac r249_106 (gd_ac r249_107 (gd_ac r249_109 (gd_ac r249_112 (gd_ac r249_113 (gd_ac r249_115 (gd_ac r249_117 (gd_ac r249_118 (gd_ac r249_121 (gd_ac r249_123 (gd_ac r249_125 (gd_ac r249_128 (gd_ac r249_130 (gd_ac r249_133 (gd_ac r249_135 (gd_ac r249_137 (gd_ac r249_140 (gd_ac r249_143 (gd_ac r249_145 (gd_an))))))))))))))))))))))))))))))))))))
def cd249 (pc : Nat) : gd_I := if pc < 80 then lkI cl249_0 pc else lkI cl249_1 pc
theorem cg249 : ∀ pc, Sd gd_mt M249 pc (cd249 pc) := by
  intro pc
  unfold cd249
  by_cases h0 : pc < 80
  · rw [if_pos h0]; exact sd_lk cs249_0 pc
  rw [if_neg h0]
  exact sd_lk cs249_1 pc
theorem r250_0 : Sd gd_mt M250 0 (i_psh (.int 0) 1) := sd_iconst dX8_lowest_0 (by decide) rfl
theorem r250_1 : Sd gd_mt M250 1 (i_ist 1 2) := sd_istore_n dX8_lowest_1 rfl (by decide) rfl
theorem r250_2 : Sd gd_mt M250 2 (i_msk [true, true] (i_ild 0 3)) := sd_msk _ (sd_iload_n dX8_lowest_2 rfl rfl)
theorem r250_3 : Sd gd_mt M250 3 (i_ild 1 4) := sd_iload_n dX8_lowest_3 rfl rfl
theorem r250_4 : Sd gd_mt M250 4 (i_ishr 5) := sd_ishr dX8_lowest_4 rfl
theorem r250_5 : Sd gd_mt M250 5 (i_psh (.int 1) 6) := sd_iconst dX8_lowest_5 (by decide) rfl
theorem r250_6 : Sd gd_mt M250 6 (i_iand 7) := sd_iand dX8_lowest_6 rfl
theorem r250_7 : Sd gd_mt M250 7 (i_ifne 16 10) := sd_ifne dX8_lowest_7 (by decide) rfl
theorem r250_10 : Sd gd_mt M250 10 (i_inc 1 1 13) := sd_iinc dX8_lowest_10 (by decide) (by decide) rfl
theorem r250_13 : Sd gd_mt M250 13 (i_goto 2) := sd_goto dX8_lowest_13 (by decide)
theorem r250_16 : Sd gd_mt M250 16 (i_ild 1 17) := sd_iload_n dX8_lowest_16 rfl rfl
theorem r250_17 : Sd gd_mt M250 17 (i_iret) := sd_iret rfl dX8_lowest_17
def cl250_0 : List (Nat × gd_I) := [(0, i_psh (.int 0) 1), (1, i_ist 1 2), (2, i_msk [true, true] (i_ild 0 3)), (3, i_ild 1 4), (4, i_ishr 5), (5, i_psh (.int 1) 6), (6, i_iand 7), (7, i_ifne 16 10), (10, i_inc 1 1 13), (13, i_goto 2), (16, i_ild 1 17), (17, i_iret)]
theorem cs250_0 : ∀ q ∈ cl250_0, Sd gd_mt M250 q.1 q.2 := gd_ac r250_0 (gd_ac r250_1 (gd_ac r250_2 (gd_ac r250_3 (gd_ac r250_4 (gd_ac r250_5 (gd_ac r250_6 (gd_ac r250_7 (gd_ac r250_10 (gd_ac r250_13 (gd_ac r250_16 (gd_ac r250_17 (gd_an))))))))))))
def cd250 (pc : Nat) : gd_I := lkI cl250_0 pc
theorem cg250 : ∀ pc, Sd gd_mt M250 pc (cd250 pc) := sd_lk cs250_0
theorem r251_0 : Sd gd_mt M251 0 (i_ald 0 1) := sd_aload_n dX8_far_0 rfl rfl
theorem r251_1 : Sd gd_mt M251 1 (i_getR 8 38 4) := sd_getR ck8 (by decide) rfl (.inl q1492) dX8_far_1 rfl
theorem r251_4 : Sd gd_mt M251 4 (i_psh (.int 0) 5) := sd_iconst dX8_far_4 (by decide) rfl
theorem r251_5 : Sd gd_mt M251 5 (i_ild 1 6) := sd_iload_n dX8_far_5 rfl rfl
theorem r251_6 : Sd gd_mt M251 6 (i_iadd 7) := sd_iadd dX8_far_6 rfl
theorem r251_7 : Sd gd_mt M251 7 (i_aldI 31 8) := sd_iald dX8_far_7 rfl
theorem r251_8 : Sd gd_mt M251 8 (i_ald 0 9) := sd_aload_n dX8_far_8 rfl rfl
theorem r251_9 : Sd gd_mt M251 9 (i_getR 8 38 12) := sd_getR ck8 (by decide) rfl (.inl q1492) dX8_far_9 rfl
theorem r251_12 : Sd gd_mt M251 12 (i_psh (.int 0) 13) := sd_iconst dX8_far_12 (by decide) rfl
theorem r251_13 : Sd gd_mt M251 13 (i_ild 2 14) := sd_iload_n dX8_far_13 rfl rfl
theorem r251_14 : Sd gd_mt M251 14 (i_iadd 15) := sd_iadd dX8_far_14 rfl
theorem r251_15 : Sd gd_mt M251 15 (i_aldI 31 16) := sd_iald dX8_far_15 rfl
theorem r251_16 : Sd gd_mt M251 16 (i_icle 39 19) := sd_icle dX8_far_16 (by decide) rfl
theorem r251_19 : Sd gd_mt M251 19 (i_ald 0 20) := sd_aload_n dX8_far_19 rfl rfl
theorem r251_20 : Sd gd_mt M251 20 (i_getR 8 38 23) := sd_getR ck8 (by decide) rfl (.inl q1492) dX8_far_20 rfl
theorem r251_23 : Sd gd_mt M251 23 (i_psh (.int 0) 24) := sd_iconst dX8_far_23 (by decide) rfl
theorem r251_24 : Sd gd_mt M251 24 (i_ild 1 25) := sd_iload_n dX8_far_24 rfl rfl
theorem r251_25 : Sd gd_mt M251 25 (i_iadd 26) := sd_iadd dX8_far_25 rfl
theorem r251_26 : Sd gd_mt M251 26 (i_aldI 31 27) := sd_iald dX8_far_26 rfl
theorem r251_27 : Sd gd_mt M251 27 (i_ald 0 28) := sd_aload_n dX8_far_27 rfl rfl
theorem r251_28 : Sd gd_mt M251 28 (i_getR 8 38 31) := sd_getR ck8 (by decide) rfl (.inl q1492) dX8_far_28 rfl
theorem r251_31 : Sd gd_mt M251 31 (i_psh (.int 0) 32) := sd_iconst dX8_far_31 (by decide) rfl
theorem r251_32 : Sd gd_mt M251 32 (i_ild 2 33) := sd_iload_n dX8_far_32 rfl rfl
theorem r251_33 : Sd gd_mt M251 33 (i_iadd 34) := sd_iadd dX8_far_33 rfl
theorem r251_34 : Sd gd_mt M251 34 (i_aldI 31 35) := sd_iald dX8_far_34 rfl
theorem r251_35 : Sd gd_mt M251 35 (i_isub 36) := sd_isub dX8_far_35 rfl
theorem r251_36 : Sd gd_mt M251 36 (i_goto 56) := sd_goto dX8_far_36 (by decide)
theorem r251_39 : Sd gd_mt M251 39 (i_ald 0 40) := sd_aload_n dX8_far_39 rfl rfl
theorem r251_40 : Sd gd_mt M251 40 (i_getR 8 38 43) := sd_getR ck8 (by decide) rfl (.inl q1492) dX8_far_40 rfl
theorem r251_43 : Sd gd_mt M251 43 (i_psh (.int 0) 44) := sd_iconst dX8_far_43 (by decide) rfl
theorem r251_44 : Sd gd_mt M251 44 (i_ild 2 45) := sd_iload_n dX8_far_44 rfl rfl
theorem r251_45 : Sd gd_mt M251 45 (i_iadd 46) := sd_iadd dX8_far_45 rfl
theorem r251_46 : Sd gd_mt M251 46 (i_aldI 31 47) := sd_iald dX8_far_46 rfl
theorem r251_47 : Sd gd_mt M251 47 (i_ald 0 48) := sd_aload_n dX8_far_47 rfl rfl
theorem r251_48 : Sd gd_mt M251 48 (i_getR 8 38 51) := sd_getR ck8 (by decide) rfl (.inl q1492) dX8_far_48 rfl
theorem r251_51 : Sd gd_mt M251 51 (i_psh (.int 0) 52) := sd_iconst dX8_far_51 (by decide) rfl
theorem r251_52 : Sd gd_mt M251 52 (i_ild 1 53) := sd_iload_n dX8_far_52 rfl rfl
theorem r251_53 : Sd gd_mt M251 53 (i_iadd 54) := sd_iadd dX8_far_53 rfl
theorem r251_54 : Sd gd_mt M251 54 (i_aldI 31 55) := sd_iald dX8_far_54 rfl
theorem r251_55 : Sd gd_mt M251 55 (i_isub 56) := sd_isub dX8_far_55 rfl
theorem r251_56 : Sd gd_mt M251 56 (i_msk [false, false, false] (i_iret)) := sd_msk _ (sd_iret rfl dX8_far_56)
def cl251_0 : List (Nat × gd_I) := [(0, i_ald 0 1), (1, i_getR 8 38 4), (4, i_psh (.int 0) 5), (5, i_ild 1 6), (6, i_iadd 7), (7, i_aldI 31 8), (8, i_ald 0 9), (9, i_getR 8 38 12), (12, i_psh (.int 0) 13), (13, i_ild 2 14), (14, i_iadd 15), (15, i_aldI 31 16), (16, i_icle 39 19), (19, i_ald 0 20), (20, i_getR 8 38 23), (23, i_psh (.int 0) 24), (24, i_ild 1 25), (25, i_iadd 26), (26, i_aldI 31 27), (27, i_ald 0 28), (28, i_getR 8 38 31), (31, i_psh (.int 0) 32), (32, i_ild 2 33), (33, i_iadd 34), (34, i_aldI 31 35), (35, i_isub 36), (36, i_goto 56), (39, i_ald 0 40), (40, i_getR 8 38 43), (43, i_psh (.int 0) 44), (44, i_ild 2 45), (45, i_iadd 46), (46, i_aldI 31 47), (47, i_ald 0 48), (48, i_getR 8 38 51), (51, i_psh (.int 0) 52), (52, i_ild 1 53), (53, i_iadd 54), (54, i_aldI 31 55), (55, i_isub 56), (56, i_msk [false, false, false] (i_iret))]
theorem cs251_0 : ∀ q ∈ cl251_0, Sd gd_mt M251 q.1 q.2 := gd_ac r251_0 (gd_ac r251_1 (gd_ac r251_4 (gd_ac r251_5 (gd_ac r251_6 (gd_ac r251_7 (gd_ac r251_8 (gd_ac r251_9 (gd_ac r251_12 (gd_ac r251_13 (gd_ac r251_14 (gd_ac r251_15 (gd_ac r251_16 (gd_ac r251_19 (gd_ac r251_20 (gd_ac r251_23 (gd_ac r251_24 (gd_ac r251_25 (gd_ac r251_26 (gd_ac r251_27 (gd_ac r251_28 (gd_ac r251_31 (gd_ac r251_32 (gd_ac r251_33 (gd_ac r251_34 (gd_ac r251_35 (gd_ac r251_36 (gd_ac r251_39 (gd_ac r251_40 (gd_ac r251_43 (gd_ac r251_44 (gd_ac r251_45 (gd_ac r251_46 (gd_ac r251_47 (gd_ac r251_48 (gd_ac r251_51 (gd_ac r251_52 (gd_ac r251_53 (gd_ac r251_54 (gd_ac r251_55 (gd_ac r251_56 (gd_an)))))))))))))))))))))))))))))))))))))))))
def cd251 (pc : Nat) : gd_I := lkI cl251_0 pc
theorem cg251 : ∀ pc, Sd gd_mt M251 pc (cd251 pc) := sd_lk cs251_0
theorem r252_0 : Sd gd_mt M252 0 (i_psh (.int 0) 1) := sd_iconst dX8_thereNow_0 (by decide) rfl
theorem r252_1 : Sd gd_mt M252 1 (i_ist 1 2) := sd_istore_n dX8_thereNow_1 rfl (by decide) rfl
theorem r252_2 : Sd gd_mt M252 2 (i_psh (.int 0) 3) := sd_iconst dX8_thereNow_2 (by decide) rfl
theorem r252_3 : Sd gd_mt M252 3 (i_ist 2 4) := sd_istore_n dX8_thereNow_3 rfl (by decide) rfl
theorem r252_4 : Sd gd_mt M252 4 (i_msk [true, true, true] (i_ild 2 5)) := sd_msk _ (sd_iload_n dX8_thereNow_4 rfl rfl)
theorem r252_5 : Sd gd_mt M252 5 (i_ald 0 6) := sd_aload_n dX8_thereNow_5 rfl rfl
theorem r252_6 : Sd gd_mt M252 6 (i_getI 8 21 9) := sd_getI ck8 (by decide) rfl (.inl q1475) dX8_thereNow_6 rfl
theorem r252_9 : Sd gd_mt M252 9 (i_icge 32 12) := sd_icge dX8_thereNow_9 (by decide) rfl
theorem r252_12 : Sd gd_mt M252 12 (i_ild 1 13) := sd_iload_n dX8_thereNow_12 rfl rfl
theorem r252_13 : Sd gd_mt M252 13 (i_ald 0 14) := sd_aload_n dX8_thereNow_13 rfl rfl
theorem r252_14 : Sd gd_mt M252 14 (i_getR 8 38 17) := sd_getR ck8 (by decide) rfl (.inl q1492) dX8_thereNow_14 rfl
theorem r252_17 : Sd gd_mt M252 17 (i_psh (.int 35) 19) := sd_bipush dX8_thereNow_17 (by decide) rfl
theorem r252_19 : Sd gd_mt M252 19 (i_ild 2 20) := sd_iload_n dX8_thereNow_19 rfl rfl
theorem r252_20 : Sd gd_mt M252 20 (i_iadd 21) := sd_iadd dX8_thereNow_20 rfl
theorem r252_21 : Sd gd_mt M252 21 (i_aldI 31 22) := sd_iald dX8_thereNow_21 rfl
theorem r252_22 : Sd gd_mt M252 22 (i_ild 2 23) := sd_iload_n dX8_thereNow_22 rfl rfl
theorem r252_23 : Sd gd_mt M252 23 (i_ishl 24) := sd_ishl dX8_thereNow_23 rfl
theorem r252_24 : Sd gd_mt M252 24 (i_ior 25) := sd_ior dX8_thereNow_24 rfl
theorem r252_25 : Sd gd_mt M252 25 (i_ist 1 26) := sd_istore_n dX8_thereNow_25 rfl (by decide) rfl
theorem r252_26 : Sd gd_mt M252 26 (i_inc 2 1 29) := sd_iinc dX8_thereNow_26 (by decide) (by decide) rfl
theorem r252_29 : Sd gd_mt M252 29 (i_goto 4) := sd_goto dX8_thereNow_29 (by decide)
theorem r252_32 : Sd gd_mt M252 32 (i_ild 1 33) := sd_iload_n dX8_thereNow_32 rfl rfl
theorem r252_33 : Sd gd_mt M252 33 (i_iret) := sd_iret rfl dX8_thereNow_33
def cl252_0 : List (Nat × gd_I) := [(0, i_psh (.int 0) 1), (1, i_ist 1 2), (2, i_psh (.int 0) 3), (3, i_ist 2 4), (4, i_msk [true, true, true] (i_ild 2 5)), (5, i_ald 0 6), (6, i_getI 8 21 9), (9, i_icge 32 12), (12, i_ild 1 13), (13, i_ald 0 14), (14, i_getR 8 38 17), (17, i_psh (.int 35) 19), (19, i_ild 2 20), (20, i_iadd 21), (21, i_aldI 31 22), (22, i_ild 2 23), (23, i_ishl 24), (24, i_ior 25), (25, i_ist 1 26), (26, i_inc 2 1 29), (29, i_goto 4), (32, i_ild 1 33), (33, i_iret)]
theorem cs252_0 : ∀ q ∈ cl252_0, Sd gd_mt M252 q.1 q.2 := gd_ac r252_0 (gd_ac r252_1 (gd_ac r252_2 (gd_ac r252_3 (gd_ac r252_4 (gd_ac r252_5 (gd_ac r252_6 (gd_ac r252_9 (gd_ac r252_12 (gd_ac r252_13 (gd_ac r252_14 (gd_ac r252_17 (gd_ac r252_19 (gd_ac r252_20 (gd_ac r252_21 (gd_ac r252_22 (gd_ac r252_23 (gd_ac r252_24 (gd_ac r252_25 (gd_ac r252_26 (gd_ac r252_29 (gd_ac r252_32 (gd_ac r252_33 (gd_an)))))))))))))))))))))))
def cd252 (pc : Nat) : gd_I := lkI cl252_0 pc
theorem cg252 : ∀ pc, Sd gd_mt M252 pc (cd252 pc) := sd_lk cs252_0
theorem r253_0 : Sd gd_mt M253 0 (i_psh (.int 0) 1) := sd_iconst dX8_odd_0 (by decide) rfl
theorem r253_1 : Sd gd_mt M253 1 (i_ist 1 2) := sd_istore_n dX8_odd_1 rfl (by decide) rfl
theorem r253_2 : Sd gd_mt M253 2 (i_psh (.int 0) 3) := sd_iconst dX8_odd_2 (by decide) rfl
theorem r253_3 : Sd gd_mt M253 3 (i_ist 2 4) := sd_istore_n dX8_odd_3 rfl (by decide) rfl
theorem r253_4 : Sd gd_mt M253 4 (i_msk [true, true, true] (i_ild 2 5)) := sd_msk _ (sd_iload_n dX8_odd_4 rfl rfl)
theorem r253_5 : Sd gd_mt M253 5 (i_psh (.int 7) 7) := sd_bipush dX8_odd_5 (by decide) rfl
theorem r253_7 : Sd gd_mt M253 7 (i_icge 24 10) := sd_icge dX8_odd_7 (by decide) rfl
theorem r253_10 : Sd gd_mt M253 10 (i_ild 1 11) := sd_iload_n dX8_odd_10 rfl rfl
theorem r253_11 : Sd gd_mt M253 11 (i_ild 0 12) := sd_iload_n dX8_odd_11 rfl rfl
theorem r253_12 : Sd gd_mt M253 12 (i_ild 2 13) := sd_iload_n dX8_odd_12 rfl rfl
theorem r253_13 : Sd gd_mt M253 13 (i_ishr 14) := sd_ishr dX8_odd_13 rfl
theorem r253_14 : Sd gd_mt M253 14 (i_psh (.int 1) 15) := sd_iconst dX8_odd_14 (by decide) rfl
theorem r253_15 : Sd gd_mt M253 15 (i_iand 16) := sd_iand dX8_odd_15 rfl
theorem r253_16 : Sd gd_mt M253 16 (i_iadd 17) := sd_iadd dX8_odd_16 rfl
theorem r253_17 : Sd gd_mt M253 17 (i_ist 1 18) := sd_istore_n dX8_odd_17 rfl (by decide) rfl
theorem r253_18 : Sd gd_mt M253 18 (i_inc 2 1 21) := sd_iinc dX8_odd_18 (by decide) (by decide) rfl
theorem r253_21 : Sd gd_mt M253 21 (i_goto 4) := sd_goto dX8_odd_21 (by decide)
theorem r253_24 : Sd gd_mt M253 24 (i_ild 1 25) := sd_iload_n dX8_odd_24 rfl rfl
theorem r253_25 : Sd gd_mt M253 25 (i_psh (.int 2) 26) := sd_iconst dX8_odd_25 (by decide) rfl
theorem r253_26 : Sd gd_mt M253 26 (i_irem 27) := sd_irem dX8_odd_26 rfl
theorem r253_27 : Sd gd_mt M253 27 (i_iret) := sd_iret rfl dX8_odd_27
def cl253_0 : List (Nat × gd_I) := [(0, i_psh (.int 0) 1), (1, i_ist 1 2), (2, i_psh (.int 0) 3), (3, i_ist 2 4), (4, i_msk [true, true, true] (i_ild 2 5)), (5, i_psh (.int 7) 7), (7, i_icge 24 10), (10, i_ild 1 11), (11, i_ild 0 12), (12, i_ild 2 13), (13, i_ishr 14), (14, i_psh (.int 1) 15), (15, i_iand 16), (16, i_iadd 17), (17, i_ist 1 18), (18, i_inc 2 1 21), (21, i_goto 4), (24, i_ild 1 25), (25, i_psh (.int 2) 26), (26, i_irem 27), (27, i_iret)]
theorem cs253_0 : ∀ q ∈ cl253_0, Sd gd_mt M253 q.1 q.2 := gd_ac r253_0 (gd_ac r253_1 (gd_ac r253_2 (gd_ac r253_3 (gd_ac r253_4 (gd_ac r253_5 (gd_ac r253_7 (gd_ac r253_10 (gd_ac r253_11 (gd_ac r253_12 (gd_ac r253_13 (gd_ac r253_14 (gd_ac r253_15 (gd_ac r253_16 (gd_ac r253_17 (gd_ac r253_18 (gd_ac r253_21 (gd_ac r253_24 (gd_ac r253_25 (gd_ac r253_26 (gd_ac r253_27 (gd_an)))))))))))))))))))))
def cd253 (pc : Nat) : gd_I := lkI cl253_0 pc
theorem cg253 : ∀ pc, Sd gd_mt M253 pc (cd253 pc) := sd_lk cs253_0
theorem r254_0 : Sd gd_mt M254 0 (i_ald 0 1) := sd_aload_n dX8_mate_0 rfl rfl
theorem r254_1 : Sd gd_mt M254 1 (i_psh (.int 0) 2) := sd_iconst dX8_mate_1 (by decide) rfl
theorem r254_2 : Sd gd_mt M254 2 (i_putI 8 0 5) := sd_putI ck8 (by decide) rfl (.inl q1454) (.inl rfl) dX8_mate_2 rfl
theorem r254_5 : Sd gd_mt M254 5 (i_ald 0 6) := sd_aload_n dX8_mate_5 rfl rfl
theorem r254_6 : Sd gd_mt M254 6 (i_ild 1 7) := sd_iload_n dX8_mate_6 rfl rfl
theorem r254_7 : Sd gd_mt M254 7 (i_psh (.int 1) 8) := sd_iconst dX8_mate_7 (by decide) rfl
theorem r254_8 : Sd gd_mt M254 8 (i_cV 239 2 8 11) := sd_cV2 e239 cal239 q1876 q1878 (rfl : gd_cl 8 = some _) qs72 dX8_mate_8 rfl
theorem r254_11 : Sd gd_mt M254 11 (i_msk [true, true] (i_ifne 16 14)) := sd_msk _ (sd_ifne dX8_mate_11 (by decide) rfl)
theorem r254_14 : Sd gd_mt M254 14 (i_psh (.int 0) 15) := sd_iconst dX8_mate_14 (by decide) rfl
theorem r254_15 : Sd gd_mt M254 15 (i_iret) := sd_iret rfl dX8_mate_15
theorem r254_16 : Sd gd_mt M254 16 (i_ald 0 17) := sd_aload_n dX8_mate_16 rfl rfl
theorem r254_17 : Sd gd_mt M254 17 (i_cV 248 0 8 20) := sd_cV2 e248 cal248 q1912 q1914 (rfl : gd_cl 8 = some _) qs74 dX8_mate_17 rfl
theorem r254_20 : Sd gd_mt M254 20 (i_msk [true, true] (i_pop 21)) := sd_msk _ (sd_pop dX8_mate_20 rfl)
theorem r254_21 : Sd gd_mt M254 21 (i_ald 0 22) := sd_aload_n dX8_mate_21 rfl rfl
theorem r254_22 : Sd gd_mt M254 22 (i_getR 8 47 25) := sd_getR ck8 (by decide) rfl (.inl q1501) dX8_mate_22 rfl
theorem r254_25 : Sd gd_mt M254 25 (i_ild 1 26) := sd_iload_n dX8_mate_25 rfl rfl
theorem r254_26 : Sd gd_mt M254 26 (i_aldI 31 27) := sd_iald dX8_mate_26 rfl
theorem r254_27 : Sd gd_mt M254 27 (i_iret) := sd_iret rfl dX8_mate_27
def cl254_0 : List (Nat × gd_I) := [(0, i_ald 0 1), (1, i_psh (.int 0) 2), (2, i_putI 8 0 5), (5, i_ald 0 6), (6, i_ild 1 7), (7, i_psh (.int 1) 8), (8, i_cV 239 2 8 11), (11, i_msk [true, true] (i_ifne 16 14)), (14, i_psh (.int 0) 15), (15, i_iret), (16, i_ald 0 17), (17, i_cV 248 0 8 20), (20, i_msk [true, true] (i_pop 21)), (21, i_ald 0 22), (22, i_getR 8 47 25), (25, i_ild 1 26), (26, i_aldI 31 27), (27, i_iret)]
theorem cs254_0 : ∀ q ∈ cl254_0, Sd gd_mt M254 q.1 q.2 := gd_ac r254_0 (gd_ac r254_1 (gd_ac r254_2 (gd_ac r254_5 (gd_ac r254_6 (gd_ac r254_7 (gd_ac r254_8 (gd_ac r254_11 (gd_ac r254_14 (gd_ac r254_15 (gd_ac r254_16 (gd_ac r254_17 (gd_ac r254_20 (gd_ac r254_21 (gd_ac r254_22 (gd_ac r254_25 (gd_ac r254_26 (gd_ac r254_27 (gd_an))))))))))))))))))
def cd254 (pc : Nat) : gd_I := lkI cl254_0 pc
theorem cg254 : ∀ pc, Sd gd_mt M254 pc (cd254 pc) := sd_lk cs254_0
theorem r255_0 : Sd gd_mt M255 0 (i_ald 0 1) := sd_aload_n dX8_ladder_0 rfl rfl
theorem r255_1 : Sd gd_mt M255 1 (i_psh (.int 0) 2) := sd_iconst dX8_ladder_1 (by decide) rfl
theorem r255_2 : Sd gd_mt M255 2 (i_putI 8 0 5) := sd_putI ck8 (by decide) rfl (.inl q1454) (.inl rfl) dX8_ladder_2 rfl
theorem r255_5 : Sd gd_mt M255 5 (i_ald 0 6) := sd_aload_n dX8_ladder_5 rfl rfl
theorem r255_6 : Sd gd_mt M255 6 (i_cV 256 0 8 9) := sd_cV2 e256 cal256 q1942 q1944 (rfl : gd_cl 8 = some _) qs78 dX8_ladder_6 rfl
theorem r255_9 : Sd gd_mt M255 9 (i_msk [false] (i_iret)) := sd_msk _ (sd_iret rfl dX8_ladder_9)
def cl255_0 : List (Nat × gd_I) := [(0, i_ald 0 1), (1, i_psh (.int 0) 2), (2, i_putI 8 0 5), (5, i_ald 0 6), (6, i_cV 256 0 8 9), (9, i_msk [false] (i_iret))]
theorem cs255_0 : ∀ q ∈ cl255_0, Sd gd_mt M255 q.1 q.2 := gd_ac r255_0 (gd_ac r255_1 (gd_ac r255_2 (gd_ac r255_5 (gd_ac r255_6 (gd_ac r255_9 (gd_an))))))
def cd255 (pc : Nat) : gd_I := lkI cl255_0 pc
theorem cg255 : ∀ pc, Sd gd_mt M255 pc (cd255 pc) := sd_lk cs255_0
theorem r256_0 : Sd gd_mt M256 0 (i_psh (.int 0) 1) := sd_iconst dX8_layLadder_0 (by decide) rfl
theorem r256_1 : Sd gd_mt M256 1 (i_ist 1 2) := sd_istore_n dX8_layLadder_1 rfl (by decide) rfl
theorem r256_2 : Sd gd_mt M256 2 (i_ald 0 3) := sd_aload_n dX8_layLadder_2 rfl rfl
theorem r256_3 : Sd gd_mt M256 3 (i_getI 8 21 6) := sd_getI ck8 (by decide) rfl (.inl q1475) dX8_layLadder_3 rfl
theorem r256_6 : Sd gd_mt M256 6 (i_psh (.int 1) 7) := sd_iconst dX8_layLadder_6 (by decide) rfl
theorem r256_7 : Sd gd_mt M256 7 (i_isub 8) := sd_isub dX8_layLadder_7 rfl
theorem r256_8 : Sd gd_mt M256 8 (i_ist 2 9) := sd_istore_n dX8_layLadder_8 rfl (by decide) rfl
theorem r256_9 : Sd gd_mt M256 9 (i_msk [true, true, true, false] (i_ild 2 10)) := sd_msk _ (sd_iload_n dX8_layLadder_9 rfl rfl)
theorem r256_10 : Sd gd_mt M256 10 (i_iflt 115 13) := sd_iflt dX8_layLadder_10 (by decide) rfl
theorem r256_13 : Sd gd_mt M256 13 (i_ald 0 14) := sd_aload_n dX8_layLadder_13 rfl rfl
theorem r256_14 : Sd gd_mt M256 14 (i_getR 8 48 17) := sd_getR ck8 (by decide) rfl (.inl q1502) dX8_layLadder_14 rfl
theorem r256_17 : Sd gd_mt M256 17 (i_ild 2 18) := sd_iload_n dX8_layLadder_17 rfl rfl
theorem r256_18 : Sd gd_mt M256 18 (i_psh (.int 1) 19) := sd_iconst dX8_layLadder_18 (by decide) rfl
theorem r256_19 : Sd gd_mt M256 19 (i_astI 20) := sd_astI dX8_layLadder_19 rfl
theorem r256_20 : Sd gd_mt M256 20 (i_ild 2 21) := sd_iload_n dX8_layLadder_20 rfl rfl
theorem r256_21 : Sd gd_mt M256 21 (i_psh (.int 1) 22) := sd_iconst dX8_layLadder_21 (by decide) rfl
theorem r256_22 : Sd gd_mt M256 22 (i_iadd 23) := sd_iadd dX8_layLadder_22 rfl
theorem r256_23 : Sd gd_mt M256 23 (i_ist 3 24) := sd_istore_n dX8_layLadder_23 rfl (by decide) rfl
theorem r256_24 : Sd gd_mt M256 24 (i_msk [true, true, true, true] (i_ild 3 25)) := sd_msk _ (sd_iload_n dX8_layLadder_24 rfl rfl)
theorem r256_25 : Sd gd_mt M256 25 (i_ald 0 26) := sd_aload_n dX8_layLadder_25 rfl rfl
theorem r256_26 : Sd gd_mt M256 26 (i_getI 8 21 29) := sd_getI ck8 (by decide) rfl (.inl q1475) dX8_layLadder_26 rfl
theorem r256_29 : Sd gd_mt M256 29 (i_icge 88 32) := sd_icge dX8_layLadder_29 (by decide) rfl
theorem r256_32 : Sd gd_mt M256 32 (i_ald 0 33) := sd_aload_n dX8_layLadder_32 rfl rfl
theorem r256_33 : Sd gd_mt M256 33 (i_getR 8 38 36) := sd_getR ck8 (by decide) rfl (.inl q1492) dX8_layLadder_33 rfl
theorem r256_36 : Sd gd_mt M256 36 (i_psh (.int 0) 37) := sd_iconst dX8_layLadder_36 (by decide) rfl
theorem r256_37 : Sd gd_mt M256 37 (i_ild 3 38) := sd_iload_n dX8_layLadder_37 rfl rfl
theorem r256_38 : Sd gd_mt M256 38 (i_iadd 39) := sd_iadd dX8_layLadder_38 rfl
theorem r256_39 : Sd gd_mt M256 39 (i_aldI 31 40) := sd_iald dX8_layLadder_39 rfl
theorem r256_40 : Sd gd_mt M256 40 (i_ald 0 41) := sd_aload_n dX8_layLadder_40 rfl rfl
theorem r256_41 : Sd gd_mt M256 41 (i_getR 8 38 44) := sd_getR ck8 (by decide) rfl (.inl q1492) dX8_layLadder_41 rfl
theorem r256_44 : Sd gd_mt M256 44 (i_psh (.int 0) 45) := sd_iconst dX8_layLadder_44 (by decide) rfl
theorem r256_45 : Sd gd_mt M256 45 (i_ild 2 46) := sd_iload_n dX8_layLadder_45 rfl rfl
theorem r256_46 : Sd gd_mt M256 46 (i_iadd 47) := sd_iadd dX8_layLadder_46 rfl
theorem r256_47 : Sd gd_mt M256 47 (i_aldI 31 48) := sd_iald dX8_layLadder_47 rfl
theorem r256_48 : Sd gd_mt M256 48 (i_icle 82 51) := sd_icle dX8_layLadder_48 (by decide) rfl
theorem r256_51 : Sd gd_mt M256 51 (i_ald 0 52) := sd_aload_n dX8_layLadder_51 rfl rfl
theorem r256_52 : Sd gd_mt M256 52 (i_getR 8 48 55) := sd_getR ck8 (by decide) rfl (.inl q1502) dX8_layLadder_52 rfl
theorem r256_55 : Sd gd_mt M256 55 (i_ild 3 56) := sd_iload_n dX8_layLadder_55 rfl rfl
theorem r256_56 : Sd gd_mt M256 56 (i_aldI 31 57) := sd_iald dX8_layLadder_56 rfl
theorem r256_57 : Sd gd_mt M256 57 (i_psh (.int 1) 58) := sd_iconst dX8_layLadder_57 (by decide) rfl
theorem r256_58 : Sd gd_mt M256 58 (i_iadd 59) := sd_iadd dX8_layLadder_58 rfl
theorem r256_59 : Sd gd_mt M256 59 (i_ald 0 60) := sd_aload_n dX8_layLadder_59 rfl rfl
theorem r256_60 : Sd gd_mt M256 60 (i_getR 8 48 63) := sd_getR ck8 (by decide) rfl (.inl q1502) dX8_layLadder_60 rfl
theorem r256_63 : Sd gd_mt M256 63 (i_ild 2 64) := sd_iload_n dX8_layLadder_63 rfl rfl
theorem r256_64 : Sd gd_mt M256 64 (i_aldI 31 65) := sd_iald dX8_layLadder_64 rfl
theorem r256_65 : Sd gd_mt M256 65 (i_icle 82 68) := sd_icle dX8_layLadder_65 (by decide) rfl
theorem r256_68 : Sd gd_mt M256 68 (i_ald 0 69) := sd_aload_n dX8_layLadder_68 rfl rfl
theorem r256_69 : Sd gd_mt M256 69 (i_getR 8 48 72) := sd_getR ck8 (by decide) rfl (.inl q1502) dX8_layLadder_69 rfl
def cl256_0 : List (Nat × gd_I) := [(0, i_psh (.int 0) 1), (1, i_ist 1 2), (2, i_ald 0 3), (3, i_getI 8 21 6), (6, i_psh (.int 1) 7), (7, i_isub 8), (8, i_ist 2 9), (9, i_msk [true, true, true, false] (i_ild 2 10)), (10, i_iflt 115 13), (13, i_ald 0 14), (14, i_getR 8 48 17), (17, i_ild 2 18), (18, i_psh (.int 1) 19), (19, i_astI 20), (20, i_ild 2 21), (21, i_psh (.int 1) 22), (22, i_iadd 23), (23, i_ist 3 24), (24, i_msk [true, true, true, true] (i_ild 3 25)), (25, i_ald 0 26), (26, i_getI 8 21 29), (29, i_icge 88 32), (32, i_ald 0 33), (33, i_getR 8 38 36), (36, i_psh (.int 0) 37), (37, i_ild 3 38), (38, i_iadd 39), (39, i_aldI 31 40), (40, i_ald 0 41), (41, i_getR 8 38 44), (44, i_psh (.int 0) 45), (45, i_ild 2 46), (46, i_iadd 47), (47, i_aldI 31 48), (48, i_icle 82 51), (51, i_ald 0 52), (52, i_getR 8 48 55), (55, i_ild 3 56), (56, i_aldI 31 57), (57, i_psh (.int 1) 58), (58, i_iadd 59), (59, i_ald 0 60), (60, i_getR 8 48 63), (63, i_ild 2 64), (64, i_aldI 31 65), (65, i_icle 82 68), (68, i_ald 0 69), (69, i_getR 8 48 72)]
theorem cs256_0 : ∀ q ∈ cl256_0, Sd gd_mt M256 q.1 q.2 := gd_ac r256_0 (gd_ac r256_1 (gd_ac r256_2 (gd_ac r256_3 (gd_ac r256_6 (gd_ac r256_7 (gd_ac r256_8 (gd_ac r256_9 (gd_ac r256_10 (gd_ac r256_13 (gd_ac r256_14 (gd_ac r256_17 (gd_ac r256_18 (gd_ac r256_19 (gd_ac r256_20 (gd_ac r256_21 (gd_ac r256_22 (gd_ac r256_23 (gd_ac r256_24 (gd_ac r256_25 (gd_ac r256_26 (gd_ac r256_29 (gd_ac r256_32 (gd_ac r256_33 (gd_ac r256_36 (gd_ac r256_37 (gd_ac r256_38 (gd_ac r256_39 (gd_ac r256_40 (gd_ac r256_41 (gd_ac r256_44 (gd_ac r256_45 (gd_ac r256_46 (gd_ac r256_47 (gd_ac r256_48 (gd_ac r256_51 (gd_ac r256_52 (gd_ac r256_55 (gd_ac r256_56 (gd_ac r256_57 (gd_ac r256_58 (gd_ac r256_59 (gd_ac r256_60 (gd_ac r256_63 (gd_ac r256_64 (gd_ac r256_65 (gd_ac r256_68 (gd_ac r256_69 (gd_an))))))))))))))))))))))))))))))))))))))))))))))))
theorem r256_72 : Sd gd_mt M256 72 (i_ild 2 73) := sd_iload_n dX8_layLadder_72 rfl rfl
theorem r256_73 : Sd gd_mt M256 73 (i_ald 0 74) := sd_aload_n dX8_layLadder_73 rfl rfl
theorem r256_74 : Sd gd_mt M256 74 (i_getR 8 48 77) := sd_getR ck8 (by decide) rfl (.inl q1502) dX8_layLadder_74 rfl
theorem r256_77 : Sd gd_mt M256 77 (i_ild 3 78) := sd_iload_n dX8_layLadder_77 rfl rfl
theorem r256_78 : Sd gd_mt M256 78 (i_aldI 31 79) := sd_iald dX8_layLadder_78 rfl
theorem r256_79 : Sd gd_mt M256 79 (i_psh (.int 1) 80) := sd_iconst dX8_layLadder_79 (by decide) rfl
theorem r256_80 : Sd gd_mt M256 80 (i_iadd 81) := sd_iadd dX8_layLadder_80 rfl
theorem r256_81 : Sd gd_mt M256 81 (i_astI 82) := sd_astI dX8_layLadder_81 rfl
theorem r256_82 : Sd gd_mt M256 82 (i_msk [true, true, true, true] (i_inc 3 1 85)) := sd_msk _ (sd_iinc dX8_layLadder_82 (by decide) (by decide) rfl)
theorem r256_85 : Sd gd_mt M256 85 (i_goto 24) := sd_goto dX8_layLadder_85 (by decide)
theorem r256_88 : Sd gd_mt M256 88 (i_ald 0 89) := sd_aload_n dX8_layLadder_88 rfl rfl
theorem r256_89 : Sd gd_mt M256 89 (i_getR 8 48 92) := sd_getR ck8 (by decide) rfl (.inl q1502) dX8_layLadder_89 rfl
theorem r256_92 : Sd gd_mt M256 92 (i_ild 2 93) := sd_iload_n dX8_layLadder_92 rfl rfl
theorem r256_93 : Sd gd_mt M256 93 (i_aldI 31 94) := sd_iald dX8_layLadder_93 rfl
theorem r256_94 : Sd gd_mt M256 94 (i_ild 1 95) := sd_iload_n dX8_layLadder_94 rfl rfl
theorem r256_95 : Sd gd_mt M256 95 (i_icle 107 98) := sd_icle dX8_layLadder_95 (by decide) rfl
theorem r256_98 : Sd gd_mt M256 98 (i_ald 0 99) := sd_aload_n dX8_layLadder_98 rfl rfl
theorem r256_99 : Sd gd_mt M256 99 (i_getR 8 48 102) := sd_getR ck8 (by decide) rfl (.inl q1502) dX8_layLadder_99 rfl
theorem r256_102 : Sd gd_mt M256 102 (i_ild 2 103) := sd_iload_n dX8_layLadder_102 rfl rfl
theorem r256_103 : Sd gd_mt M256 103 (i_aldI 31 104) := sd_iald dX8_layLadder_103 rfl
theorem r256_104 : Sd gd_mt M256 104 (i_goto 108) := sd_goto dX8_layLadder_104 (by decide)
theorem r256_107 : Sd gd_mt M256 107 (i_ild 1 108) := sd_iload_n dX8_layLadder_107 rfl rfl
theorem r256_108 : Sd gd_mt M256 108 (i_msk [true, false, true, false] (i_ist 1 109)) := sd_msk _ (sd_istore_n dX8_layLadder_108 rfl (by decide) rfl)
theorem r256_109 : Sd gd_mt M256 109 (i_inc 2 (-1) 112) := sd_iinc dX8_layLadder_109 (by decide) (by decide) rfl
theorem r256_112 : Sd gd_mt M256 112 (i_goto 9) := sd_goto dX8_layLadder_112 (by decide)
theorem r256_115 : Sd gd_mt M256 115 (i_ild 1 116) := sd_iload_n dX8_layLadder_115 rfl rfl
theorem r256_116 : Sd gd_mt M256 116 (i_iret) := sd_iret rfl dX8_layLadder_116
def cl256_1 : List (Nat × gd_I) := [(72, i_ild 2 73), (73, i_ald 0 74), (74, i_getR 8 48 77), (77, i_ild 3 78), (78, i_aldI 31 79), (79, i_psh (.int 1) 80), (80, i_iadd 81), (81, i_astI 82), (82, i_msk [true, true, true, true] (i_inc 3 1 85)), (85, i_goto 24), (88, i_ald 0 89), (89, i_getR 8 48 92), (92, i_ild 2 93), (93, i_aldI 31 94), (94, i_ild 1 95), (95, i_icle 107 98), (98, i_ald 0 99), (99, i_getR 8 48 102), (102, i_ild 2 103), (103, i_aldI 31 104), (104, i_goto 108), (107, i_ild 1 108), (108, i_msk [true, false, true, false] (i_ist 1 109)), (109, i_inc 2 (-1) 112), (112, i_goto 9), (115, i_ild 1 116), (116, i_iret)]
theorem cs256_1 : ∀ q ∈ cl256_1, Sd gd_mt M256 q.1 q.2 := gd_ac r256_72 (gd_ac r256_73 (gd_ac r256_74 (gd_ac r256_77 (gd_ac r256_78 (gd_ac r256_79 (gd_ac r256_80 (gd_ac r256_81 (gd_ac r256_82 (gd_ac r256_85 (gd_ac r256_88 (gd_ac r256_89 (gd_ac r256_92 (gd_ac r256_93 (gd_ac r256_94 (gd_ac r256_95 (gd_ac r256_98 (gd_ac r256_99 (gd_ac r256_102 (gd_ac r256_103 (gd_ac r256_104 (gd_ac r256_107 (gd_ac r256_108 (gd_ac r256_109 (gd_ac r256_112 (gd_ac r256_115 (gd_ac r256_116 (gd_an)))))))))))))))))))))))))))
def cd256 (pc : Nat) : gd_I := if pc < 72 then lkI cl256_0 pc else lkI cl256_1 pc
theorem cg256 : ∀ pc, Sd gd_mt M256 pc (cd256 pc) := by
  intro pc
  unfold cd256
  by_cases h0 : pc < 72
  · rw [if_pos h0]; exact sd_lk cs256_0 pc
  rw [if_neg h0]
  exact sd_lk cs256_1 pc
theorem r257_0 : Sd gd_mt M257 0 (i_ald 0 1) := sd_aload_n dX8_rung_0 rfl rfl
theorem r257_1 : Sd gd_mt M257 1 (i_psh (.int 0) 2) := sd_iconst dX8_rung_1 (by decide) rfl
theorem r257_2 : Sd gd_mt M257 2 (i_putI 8 0 5) := sd_putI ck8 (by decide) rfl (.inl q1454) (.inl rfl) dX8_rung_2 rfl
theorem r257_5 : Sd gd_mt M257 5 (i_ald 0 6) := sd_aload_n dX8_rung_5 rfl rfl
theorem r257_6 : Sd gd_mt M257 6 (i_ild 1 7) := sd_iload_n dX8_rung_6 rfl rfl
theorem r257_7 : Sd gd_mt M257 7 (i_iflt 14 10) := sd_iflt dX8_rung_7 (by decide) rfl
theorem r257_10 : Sd gd_mt M257 10 (i_psh (.int 1) 11) := sd_iconst dX8_rung_10 (by decide) rfl
theorem r257_11 : Sd gd_mt M257 11 (i_goto 15) := sd_goto dX8_rung_11 (by decide)
theorem r257_14 : Sd gd_mt M257 14 (i_psh (.int 0) 15) := sd_iconst dX8_rung_14 (by decide) rfl
theorem r257_15 : Sd gd_mt M257 15 (i_msk [true, true, false, false, false, false] (i_psh (.int 1) 16)) := sd_msk _ (sd_iconst dX8_rung_15 (by decide) rfl)
theorem r257_16 : Sd gd_mt M257 16 (i_psh (.int 1) 17) := sd_iconst dX8_rung_16 (by decide) rfl
theorem r257_17 : Sd gd_mt M257 17 (i_cV 183 3 8 20) := sd_cV2 e183 cal183 q1639 q1641 (rfl : gd_cl 8 = some _) qs30 dX8_rung_17 rfl
theorem r257_20 : Sd gd_mt M257 20 (i_msk [true, true, false, false, false, false] (i_ifne 25 23)) := sd_msk _ (sd_ifne dX8_rung_20 (by decide) rfl)
theorem r257_23 : Sd gd_mt M257 23 (i_psh (.int 0) 24) := sd_iconst dX8_rung_23 (by decide) rfl
theorem r257_24 : Sd gd_mt M257 24 (i_iret) := sd_iret rfl dX8_rung_24
theorem r257_25 : Sd gd_mt M257 25 (i_ald 0 26) := sd_aload_n dX8_rung_25 rfl rfl
theorem r257_26 : Sd gd_mt M257 26 (i_cV 256 0 8 29) := sd_cV2 e256 cal256 q1942 q1944 (rfl : gd_cl 8 = some _) qs78 dX8_rung_26 rfl
theorem r257_29 : Sd gd_mt M257 29 (i_msk [true, true, false, false, false, false] (i_ist 2 30)) := sd_msk _ (sd_istore_n dX8_rung_29 rfl (by decide) rfl)
theorem r257_30 : Sd gd_mt M257 30 (i_ild 1 31) := sd_iload_n dX8_rung_30 rfl rfl
theorem r257_31 : Sd gd_mt M257 31 (i_ild 2 32) := sd_iload_n dX8_rung_31 rfl rfl
theorem r257_32 : Sd gd_mt M257 32 (i_iclt 37 35) := sd_iclt dX8_rung_32 (by decide) rfl
theorem r257_35 : Sd gd_mt M257 35 (i_psh (.int (-1)) 36) := sd_iconst dX8_rung_35 (by decide) rfl
theorem r257_36 : Sd gd_mt M257 36 (i_iret) := sd_iret rfl dX8_rung_36
theorem r257_37 : Sd gd_mt M257 37 (i_psh (.int (-1)) 38) := sd_iconst dX8_rung_37 (by decide) rfl
theorem r257_38 : Sd gd_mt M257 38 (i_ist 3 39) := sd_istore_n dX8_rung_38 rfl (by decide) rfl
theorem r257_39 : Sd gd_mt M257 39 (i_psh (.int 0) 40) := sd_iconst dX8_rung_39 (by decide) rfl
theorem r257_40 : Sd gd_mt M257 40 (i_ist 4 42) := sd_istore dX8_rung_40 (by decide) rfl
theorem r257_42 : Sd gd_mt M257 42 (i_msk [true, true, true, true, true, false] (i_ild 4 44)) := sd_msk _ (sd_iload dX8_rung_42 rfl)
theorem r257_44 : Sd gd_mt M257 44 (i_ild 1 45) := sd_iload_n dX8_rung_44 rfl rfl
theorem r257_45 : Sd gd_mt M257 45 (i_icgt 107 48) := sd_icgt dX8_rung_45 (by decide) rfl
theorem r257_48 : Sd gd_mt M257 48 (i_ild 3 49) := sd_iload_n dX8_rung_48 rfl rfl
theorem r257_49 : Sd gd_mt M257 49 (i_psh (.int 1) 50) := sd_iconst dX8_rung_49 (by decide) rfl
theorem r257_50 : Sd gd_mt M257 50 (i_iadd 51) := sd_iadd dX8_rung_50 rfl
theorem r257_51 : Sd gd_mt M257 51 (i_ist 5 53) := sd_istore dX8_rung_51 (by decide) rfl
theorem r257_53 : Sd gd_mt M257 53 (i_msk [true, true, true, true, true, true] (i_ald 0 54)) := sd_msk _ (sd_aload_n dX8_rung_53 rfl rfl)
theorem r257_54 : Sd gd_mt M257 54 (i_getR 8 48 57) := sd_getR ck8 (by decide) rfl (.inl q1502) dX8_rung_54 rfl
theorem r257_57 : Sd gd_mt M257 57 (i_ild 5 59) := sd_iload dX8_rung_57 rfl
theorem r257_59 : Sd gd_mt M257 59 (i_aldI 31 60) := sd_iald dX8_rung_59 rfl
theorem r257_60 : Sd gd_mt M257 60 (i_ild 2 61) := sd_iload_n dX8_rung_60 rfl rfl
theorem r257_61 : Sd gd_mt M257 61 (i_ild 4 63) := sd_iload dX8_rung_61 rfl
theorem r257_63 : Sd gd_mt M257 63 (i_isub 64) := sd_isub dX8_rung_63 rfl
theorem r257_64 : Sd gd_mt M257 64 (i_icne 92 67) := sd_icne dX8_rung_64 (by decide) rfl
theorem r257_67 : Sd gd_mt M257 67 (i_ild 3 68) := sd_iload_n dX8_rung_67 rfl rfl
theorem r257_68 : Sd gd_mt M257 68 (i_psh (.int (-1)) 69) := sd_iconst dX8_rung_68 (by decide) rfl
theorem r257_69 : Sd gd_mt M257 69 (i_iceq 98 72) := sd_iceq dX8_rung_69 (by decide) rfl
theorem r257_72 : Sd gd_mt M257 72 (i_ald 0 73) := sd_aload_n dX8_rung_72 rfl rfl
theorem r257_73 : Sd gd_mt M257 73 (i_getR 8 38 76) := sd_getR ck8 (by decide) rfl (.inl q1492) dX8_rung_73 rfl
theorem r257_76 : Sd gd_mt M257 76 (i_psh (.int 0) 77) := sd_iconst dX8_rung_76 (by decide) rfl
def cl257_0 : List (Nat × gd_I) := [(0, i_ald 0 1), (1, i_psh (.int 0) 2), (2, i_putI 8 0 5), (5, i_ald 0 6), (6, i_ild 1 7), (7, i_iflt 14 10), (10, i_psh (.int 1) 11), (11, i_goto 15), (14, i_psh (.int 0) 15), (15, i_msk [true, true, false, false, false, false] (i_psh (.int 1) 16)), (16, i_psh (.int 1) 17), (17, i_cV 183 3 8 20), (20, i_msk [true, true, false, false, false, false] (i_ifne 25 23)), (23, i_psh (.int 0) 24), (24, i_iret), (25, i_ald 0 26), (26, i_cV 256 0 8 29), (29, i_msk [true, true, false, false, false, false] (i_ist 2 30)), (30, i_ild 1 31), (31, i_ild 2 32), (32, i_iclt 37 35), (35, i_psh (.int (-1)) 36), (36, i_iret), (37, i_psh (.int (-1)) 38), (38, i_ist 3 39), (39, i_psh (.int 0) 40), (40, i_ist 4 42), (42, i_msk [true, true, true, true, true, false] (i_ild 4 44)), (44, i_ild 1 45), (45, i_icgt 107 48), (48, i_ild 3 49), (49, i_psh (.int 1) 50), (50, i_iadd 51), (51, i_ist 5 53), (53, i_msk [true, true, true, true, true, true] (i_ald 0 54)), (54, i_getR 8 48 57), (57, i_ild 5 59), (59, i_aldI 31 60), (60, i_ild 2 61), (61, i_ild 4 63), (63, i_isub 64), (64, i_icne 92 67), (67, i_ild 3 68), (68, i_psh (.int (-1)) 69), (69, i_iceq 98 72), (72, i_ald 0 73), (73, i_getR 8 38 76), (76, i_psh (.int 0) 77)]
theorem cs257_0 : ∀ q ∈ cl257_0, Sd gd_mt M257 q.1 q.2 := gd_ac r257_0 (gd_ac r257_1 (gd_ac r257_2 (gd_ac r257_5 (gd_ac r257_6 (gd_ac r257_7 (gd_ac r257_10 (gd_ac r257_11 (gd_ac r257_14 (gd_ac r257_15 (gd_ac r257_16 (gd_ac r257_17 (gd_ac r257_20 (gd_ac r257_23 (gd_ac r257_24 (gd_ac r257_25 (gd_ac r257_26 (gd_ac r257_29 (gd_ac r257_30 (gd_ac r257_31 (gd_ac r257_32 (gd_ac r257_35 (gd_ac r257_36 (gd_ac r257_37 (gd_ac r257_38 (gd_ac r257_39 (gd_ac r257_40 (gd_ac r257_42 (gd_ac r257_44 (gd_ac r257_45 (gd_ac r257_48 (gd_ac r257_49 (gd_ac r257_50 (gd_ac r257_51 (gd_ac r257_53 (gd_ac r257_54 (gd_ac r257_57 (gd_ac r257_59 (gd_ac r257_60 (gd_ac r257_61 (gd_ac r257_63 (gd_ac r257_64 (gd_ac r257_67 (gd_ac r257_68 (gd_ac r257_69 (gd_ac r257_72 (gd_ac r257_73 (gd_ac r257_76 (gd_an))))))))))))))))))))))))))))))))))))))))))))))))
theorem r257_77 : Sd gd_mt M257 77 (i_ild 5 79) := sd_iload dX8_rung_77 rfl
theorem r257_79 : Sd gd_mt M257 79 (i_iadd 80) := sd_iadd dX8_rung_79 rfl
theorem r257_80 : Sd gd_mt M257 80 (i_aldI 31 81) := sd_iald dX8_rung_80 rfl
theorem r257_81 : Sd gd_mt M257 81 (i_ald 0 82) := sd_aload_n dX8_rung_81 rfl rfl
theorem r257_82 : Sd gd_mt M257 82 (i_getR 8 38 85) := sd_getR ck8 (by decide) rfl (.inl q1492) dX8_rung_82 rfl
theorem r257_85 : Sd gd_mt M257 85 (i_psh (.int 0) 86) := sd_iconst dX8_rung_85 (by decide) rfl
theorem r257_86 : Sd gd_mt M257 86 (i_ild 3 87) := sd_iload_n dX8_rung_86 rfl rfl
theorem r257_87 : Sd gd_mt M257 87 (i_iadd 88) := sd_iadd dX8_rung_87 rfl
theorem r257_88 : Sd gd_mt M257 88 (i_aldI 31 89) := sd_iald dX8_rung_88 rfl
theorem r257_89 : Sd gd_mt M257 89 (i_icgt 98 92) := sd_icgt dX8_rung_89 (by decide) rfl
theorem r257_92 : Sd gd_mt M257 92 (i_msk [true, true, true, true, true, true] (i_inc 5 1 95)) := sd_msk _ (sd_iinc dX8_rung_92 (by decide) (by decide) rfl)
theorem r257_95 : Sd gd_mt M257 95 (i_goto 53) := sd_goto dX8_rung_95 (by decide)
theorem r257_98 : Sd gd_mt M257 98 (i_msk [true, true, true, false, true, true] (i_ild 5 100)) := sd_msk _ (sd_iload dX8_rung_98 rfl)
theorem r257_100 : Sd gd_mt M257 100 (i_ist 3 101) := sd_istore_n dX8_rung_100 rfl (by decide) rfl
theorem r257_101 : Sd gd_mt M257 101 (i_inc 4 1 104) := sd_iinc dX8_rung_101 (by decide) (by decide) rfl
theorem r257_104 : Sd gd_mt M257 104 (i_goto 42) := sd_goto dX8_rung_104 (by decide)
theorem r257_107 : Sd gd_mt M257 107 (i_ild 3 108) := sd_iload_n dX8_rung_107 rfl rfl
theorem r257_108 : Sd gd_mt M257 108 (i_iret) := sd_iret rfl dX8_rung_108
def cl257_1 : List (Nat × gd_I) := [(77, i_ild 5 79), (79, i_iadd 80), (80, i_aldI 31 81), (81, i_ald 0 82), (82, i_getR 8 38 85), (85, i_psh (.int 0) 86), (86, i_ild 3 87), (87, i_iadd 88), (88, i_aldI 31 89), (89, i_icgt 98 92), (92, i_msk [true, true, true, true, true, true] (i_inc 5 1 95)), (95, i_goto 53), (98, i_msk [true, true, true, false, true, true] (i_ild 5 100)), (100, i_ist 3 101), (101, i_inc 4 1 104), (104, i_goto 42), (107, i_ild 3 108), (108, i_iret)]
theorem cs257_1 : ∀ q ∈ cl257_1, Sd gd_mt M257 q.1 q.2 := gd_ac r257_77 (gd_ac r257_79 (gd_ac r257_80 (gd_ac r257_81 (gd_ac r257_82 (gd_ac r257_85 (gd_ac r257_86 (gd_ac r257_87 (gd_ac r257_88 (gd_ac r257_89 (gd_ac r257_92 (gd_ac r257_95 (gd_ac r257_98 (gd_ac r257_100 (gd_ac r257_101 (gd_ac r257_104 (gd_ac r257_107 (gd_ac r257_108 (gd_an))))))))))))))))))
def cd257 (pc : Nat) : gd_I := if pc < 77 then lkI cl257_0 pc else lkI cl257_1 pc
theorem cg257 : ∀ pc, Sd gd_mt M257 pc (cd257 pc) := by
  intro pc
  unfold cd257
  by_cases h0 : pc < 77
  · rw [if_pos h0]; exact sd_lk cs257_0 pc
  rw [if_neg h0]
  exact sd_lk cs257_1 pc
theorem r258_0 : Sd gd_mt M258 0 (i_ald 0 1) := sd_aload_n dX8_fits_0 rfl rfl
theorem r258_1 : Sd gd_mt M258 1 (i_psh (.int 0) 2) := sd_iconst dX8_fits_1 (by decide) rfl
theorem r258_2 : Sd gd_mt M258 2 (i_putI 8 0 5) := sd_putI ck8 (by decide) rfl (.inl q1454) (.inl rfl) dX8_fits_2 rfl
theorem r258_5 : Sd gd_mt M258 5 (i_ald 0 6) := sd_aload_n dX8_fits_5 rfl rfl
theorem r258_6 : Sd gd_mt M258 6 (i_ild 1 7) := sd_iload_n dX8_fits_6 rfl rfl
theorem r258_7 : Sd gd_mt M258 7 (i_psh (.int 1) 8) := sd_iconst dX8_fits_7 (by decide) rfl
theorem r258_8 : Sd gd_mt M258 8 (i_cV 239 2 8 11) := sd_cV2 e239 cal239 q1876 q1878 (rfl : gd_cl 8 = some _) qs72 dX8_fits_8 rfl
theorem r258_11 : Sd gd_mt M258 11 (i_msk [true, true, true, false, false, false] (i_ifeq 29 14)) := sd_msk _ (sd_ifeq dX8_fits_11 (by decide) rfl)
theorem r258_14 : Sd gd_mt M258 14 (i_ald 0 15) := sd_aload_n dX8_fits_14 rfl rfl
theorem r258_15 : Sd gd_mt M258 15 (i_ild 2 16) := sd_iload_n dX8_fits_15 rfl rfl
theorem r258_16 : Sd gd_mt M258 16 (i_psh (.int 0) 17) := sd_iconst dX8_fits_16 (by decide) rfl
theorem r258_17 : Sd gd_mt M258 17 (i_psh (.int 1) 18) := sd_iconst dX8_fits_17 (by decide) rfl
theorem r258_18 : Sd gd_mt M258 18 (i_cS 233 3 21) := sd_cS2 e233 cal233 q1853 q1854 dX8_fits_18 rfl
theorem r258_21 : Sd gd_mt M258 21 (i_msk [true, true, true, false, false, false] (i_psh (.int 2) 22)) := sd_msk _ (sd_iconst dX8_fits_21 (by decide) rfl)
theorem r258_22 : Sd gd_mt M258 22 (i_psh (.int 1) 23) := sd_iconst dX8_fits_22 (by decide) rfl
theorem r258_23 : Sd gd_mt M258 23 (i_cV 183 3 8 26) := sd_cV2 e183 cal183 q1639 q1641 (rfl : gd_cl 8 = some _) qs30 dX8_fits_23 rfl
theorem r258_26 : Sd gd_mt M258 26 (i_msk [true, true, true, false, false, false] (i_ifne 31 29)) := sd_msk _ (sd_ifne dX8_fits_26 (by decide) rfl)
theorem r258_29 : Sd gd_mt M258 29 (i_msk [false, false, false, false, false, false] (i_psh (.int 0) 30)) := sd_msk _ (sd_iconst dX8_fits_29 (by decide) rfl)
theorem r258_30 : Sd gd_mt M258 30 (i_iret) := sd_iret rfl dX8_fits_30
theorem r258_31 : Sd gd_mt M258 31 (i_ald 0 32) := sd_aload_n dX8_fits_31 rfl rfl
theorem r258_32 : Sd gd_mt M258 32 (i_ild 1 33) := sd_iload_n dX8_fits_32 rfl rfl
theorem r258_33 : Sd gd_mt M258 33 (i_cV 259 1 8 36) := sd_cV2 e259 cal259 q1954 q1956 (rfl : gd_cl 8 = some _) qs79 dX8_fits_33 rfl
theorem r258_36 : Sd gd_mt M258 36 (i_msk [true, false, true, false, false, false] (i_psh (.int 0) 37)) := sd_msk _ (sd_iconst dX8_fits_36 (by decide) rfl)
theorem r258_37 : Sd gd_mt M258 37 (i_ist 3 38) := sd_istore_n dX8_fits_37 rfl (by decide) rfl
theorem r258_38 : Sd gd_mt M258 38 (i_psh (.int (-1)) 39) := sd_iconst dX8_fits_38 (by decide) rfl
theorem r258_39 : Sd gd_mt M258 39 (i_ist 4 41) := sd_istore dX8_fits_39 (by decide) rfl
theorem r258_41 : Sd gd_mt M258 41 (i_psh (.int 0) 42) := sd_iconst dX8_fits_41 (by decide) rfl
theorem r258_42 : Sd gd_mt M258 42 (i_ist 5 44) := sd_istore dX8_fits_42 (by decide) rfl
theorem r258_44 : Sd gd_mt M258 44 (i_msk [true, false, true, true, true, true] (i_ild 5 46)) := sd_msk _ (sd_iload dX8_fits_44 rfl)
theorem r258_46 : Sd gd_mt M258 46 (i_psh (.int 100) 48) := sd_bipush dX8_fits_46 (by decide) rfl
theorem r258_48 : Sd gd_mt M258 48 (i_icge 88 51) := sd_icge dX8_fits_48 (by decide) rfl
theorem r258_51 : Sd gd_mt M258 51 (i_ald 0 52) := sd_aload_n dX8_fits_51 rfl rfl
theorem r258_52 : Sd gd_mt M258 52 (i_getR 8 50 55) := sd_getR ck8 (by decide) rfl (.inl q1504) dX8_fits_52 rfl
theorem r258_55 : Sd gd_mt M258 55 (i_ild 5 57) := sd_iload dX8_fits_55 rfl
theorem r258_57 : Sd gd_mt M258 57 (i_aldI 33 58) := sd_zald dX8_fits_57 rfl
theorem r258_58 : Sd gd_mt M258 58 (i_ifne 64 61) := sd_ifne dX8_fits_58 (by decide) rfl
theorem r258_61 : Sd gd_mt M258 61 (i_goto 82) := sd_goto dX8_fits_61 (by decide)
theorem r258_64 : Sd gd_mt M258 64 (i_inc 3 1 67) := sd_iinc dX8_fits_64 (by decide) (by decide) rfl
theorem r258_67 : Sd gd_mt M258 67 (i_ild 4 69) := sd_iload dX8_fits_67 rfl
theorem r258_69 : Sd gd_mt M258 69 (i_psh (.int (-1)) 70) := sd_iconst dX8_fits_69 (by decide) rfl
theorem r258_70 : Sd gd_mt M258 70 (i_icne 78 73) := sd_icne dX8_fits_70 (by decide) rfl
theorem r258_73 : Sd gd_mt M258 73 (i_ild 5 75) := sd_iload dX8_fits_73 rfl
theorem r258_75 : Sd gd_mt M258 75 (i_goto 80) := sd_goto dX8_fits_75 (by decide)
theorem r258_78 : Sd gd_mt M258 78 (i_ild 4 80) := sd_iload dX8_fits_78 rfl
theorem r258_80 : Sd gd_mt M258 80 (i_msk [true, false, true, true, false, true] (i_ist 4 82)) := sd_msk _ (sd_istore dX8_fits_80 (by decide) rfl)
theorem r258_82 : Sd gd_mt M258 82 (i_msk [true, false, true, true, true, true] (i_inc 5 1 85)) := sd_msk _ (sd_iinc dX8_fits_82 (by decide) (by decide) rfl)
theorem r258_85 : Sd gd_mt M258 85 (i_goto 44) := sd_goto dX8_fits_85 (by decide)
theorem r258_88 : Sd gd_mt M258 88 (i_ild 2 89) := sd_iload_n dX8_fits_88 rfl rfl
def cl258_0 : List (Nat × gd_I) := [(0, i_ald 0 1), (1, i_psh (.int 0) 2), (2, i_putI 8 0 5), (5, i_ald 0 6), (6, i_ild 1 7), (7, i_psh (.int 1) 8), (8, i_cV 239 2 8 11), (11, i_msk [true, true, true, false, false, false] (i_ifeq 29 14)), (14, i_ald 0 15), (15, i_ild 2 16), (16, i_psh (.int 0) 17), (17, i_psh (.int 1) 18), (18, i_cS 233 3 21), (21, i_msk [true, true, true, false, false, false] (i_psh (.int 2) 22)), (22, i_psh (.int 1) 23), (23, i_cV 183 3 8 26), (26, i_msk [true, true, true, false, false, false] (i_ifne 31 29)), (29, i_msk [false, false, false, false, false, false] (i_psh (.int 0) 30)), (30, i_iret), (31, i_ald 0 32), (32, i_ild 1 33), (33, i_cV 259 1 8 36), (36, i_msk [true, false, true, false, false, false] (i_psh (.int 0) 37)), (37, i_ist 3 38), (38, i_psh (.int (-1)) 39), (39, i_ist 4 41), (41, i_psh (.int 0) 42), (42, i_ist 5 44), (44, i_msk [true, false, true, true, true, true] (i_ild 5 46)), (46, i_psh (.int 100) 48), (48, i_icge 88 51), (51, i_ald 0 52), (52, i_getR 8 50 55), (55, i_ild 5 57), (57, i_aldI 33 58), (58, i_ifne 64 61), (61, i_goto 82), (64, i_inc 3 1 67), (67, i_ild 4 69), (69, i_psh (.int (-1)) 70), (70, i_icne 78 73), (73, i_ild 5 75), (75, i_goto 80), (78, i_ild 4 80), (80, i_msk [true, false, true, true, false, true] (i_ist 4 82)), (82, i_msk [true, false, true, true, true, true] (i_inc 5 1 85)), (85, i_goto 44), (88, i_ild 2 89)]
theorem cs258_0 : ∀ q ∈ cl258_0, Sd gd_mt M258 q.1 q.2 := gd_ac r258_0 (gd_ac r258_1 (gd_ac r258_2 (gd_ac r258_5 (gd_ac r258_6 (gd_ac r258_7 (gd_ac r258_8 (gd_ac r258_11 (gd_ac r258_14 (gd_ac r258_15 (gd_ac r258_16 (gd_ac r258_17 (gd_ac r258_18 (gd_ac r258_21 (gd_ac r258_22 (gd_ac r258_23 (gd_ac r258_26 (gd_ac r258_29 (gd_ac r258_30 (gd_ac r258_31 (gd_ac r258_32 (gd_ac r258_33 (gd_ac r258_36 (gd_ac r258_37 (gd_ac r258_38 (gd_ac r258_39 (gd_ac r258_41 (gd_ac r258_42 (gd_ac r258_44 (gd_ac r258_46 (gd_ac r258_48 (gd_ac r258_51 (gd_ac r258_52 (gd_ac r258_55 (gd_ac r258_57 (gd_ac r258_58 (gd_ac r258_61 (gd_ac r258_64 (gd_ac r258_67 (gd_ac r258_69 (gd_ac r258_70 (gd_ac r258_73 (gd_ac r258_75 (gd_ac r258_78 (gd_ac r258_80 (gd_ac r258_82 (gd_ac r258_85 (gd_ac r258_88 (gd_an))))))))))))))))))))))))))))))))))))))))))))))))
theorem r258_89 : Sd gd_mt M258 89 (i_ifne 96 92) := sd_ifne dX8_fits_89 (by decide) rfl
theorem r258_92 : Sd gd_mt M258 92 (i_ild 3 93) := sd_iload_n dX8_fits_92 rfl rfl
theorem r258_93 : Sd gd_mt M258 93 (i_goto 98) := sd_goto dX8_fits_93 (by decide)
theorem r258_96 : Sd gd_mt M258 96 (i_ild 4 98) := sd_iload dX8_fits_96 rfl
theorem r258_98 : Sd gd_mt M258 98 (i_msk [false, false, false, false, false, false] (i_iret)) := sd_msk _ (sd_iret rfl dX8_fits_98)
def cl258_1 : List (Nat × gd_I) := [(89, i_ifne 96 92), (92, i_ild 3 93), (93, i_goto 98), (96, i_ild 4 98), (98, i_msk [false, false, false, false, false, false] (i_iret))]
theorem cs258_1 : ∀ q ∈ cl258_1, Sd gd_mt M258 q.1 q.2 := gd_ac r258_89 (gd_ac r258_92 (gd_ac r258_93 (gd_ac r258_96 (gd_ac r258_98 (gd_an)))))
def cd258 (pc : Nat) : gd_I := if pc < 89 then lkI cl258_0 pc else lkI cl258_1 pc
theorem cg258 : ∀ pc, Sd gd_mt M258 pc (cd258 pc) := by
  intro pc
  unfold cd258
  by_cases h0 : pc < 89
  · rw [if_pos h0]; exact sd_lk cs258_0 pc
  rw [if_neg h0]
  exact sd_lk cs258_1 pc
theorem r259_0 : Sd gd_mt M259 0 (i_psh (.int 0) 1) := sd_iconst dX8_findPairs_0 (by decide) rfl
theorem r259_1 : Sd gd_mt M259 1 (i_ist 2 2) := sd_istore_n dX8_findPairs_1 rfl (by decide) rfl
theorem r259_2 : Sd gd_mt M259 2 (i_msk [true, true, true, false] (i_ild 2 3)) := sd_msk _ (sd_iload_n dX8_findPairs_2 rfl rfl)
theorem r259_3 : Sd gd_mt M259 3 (i_psh (.int 100) 5) := sd_bipush dX8_findPairs_3 (by decide) rfl
theorem r259_5 : Sd gd_mt M259 5 (i_icge 135 8) := sd_icge dX8_findPairs_5 (by decide) rfl
theorem r259_8 : Sd gd_mt M259 8 (i_ald 0 9) := sd_aload_n dX8_findPairs_8 rfl rfl
theorem r259_9 : Sd gd_mt M259 9 (i_cV 211 0 8 12) := sd_cV2 e211 cal211 q1767 q1769 (rfl : gd_cl 8 = some _) qs52 dX8_findPairs_9 rfl
theorem r259_12 : Sd gd_mt M259 12 (i_msk [true, true, true, false] (i_ald 0 13)) := sd_msk _ (sd_aload_n dX8_findPairs_12 rfl rfl)
theorem r259_13 : Sd gd_mt M259 13 (i_getR 8 39 16) := sd_getR ck8 (by decide) rfl (.inl q1493) dX8_findPairs_13 rfl
theorem r259_16 : Sd gd_mt M259 16 (i_psh (.int 7) 18) := sd_bipush dX8_findPairs_16 (by decide) rfl
theorem r259_18 : Sd gd_mt M259 18 (i_ild 1 19) := sd_iload_n dX8_findPairs_18 rfl rfl
theorem r259_19 : Sd gd_mt M259 19 (i_iadd 20) := sd_iadd dX8_findPairs_19 rfl
theorem r259_20 : Sd gd_mt M259 20 (i_ild 2 21) := sd_iload_n dX8_findPairs_20 rfl rfl
theorem r259_21 : Sd gd_mt M259 21 (i_psh (.int 10) 23) := sd_bipush dX8_findPairs_21 (by decide) rfl
theorem r259_23 : Sd gd_mt M259 23 (i_idiv 24) := sd_idiv dX8_findPairs_23 rfl
theorem r259_24 : Sd gd_mt M259 24 (i_astI 25) := sd_astI dX8_findPairs_24 rfl
theorem r259_25 : Sd gd_mt M259 25 (i_ald 0 26) := sd_aload_n dX8_findPairs_25 rfl rfl
theorem r259_26 : Sd gd_mt M259 26 (i_ild 2 27) := sd_iload_n dX8_findPairs_26 rfl rfl
theorem r259_27 : Sd gd_mt M259 27 (i_psh (.int 10) 29) := sd_bipush dX8_findPairs_27 (by decide) rfl
theorem r259_29 : Sd gd_mt M259 29 (i_irem 30) := sd_irem dX8_findPairs_29 rfl
theorem r259_30 : Sd gd_mt M259 30 (i_putI 8 42 33) := sd_putI ck8 (by decide) rfl (.inl q1496) (.inl rfl) dX8_findPairs_30 rfl
theorem r259_33 : Sd gd_mt M259 33 (i_ald 0 34) := sd_aload_n dX8_findPairs_33 rfl rfl
theorem r259_34 : Sd gd_mt M259 34 (i_getR 8 50 37) := sd_getR ck8 (by decide) rfl (.inl q1504) dX8_findPairs_34 rfl
theorem r259_37 : Sd gd_mt M259 37 (i_ild 2 38) := sd_iload_n dX8_findPairs_37 rfl rfl
theorem r259_38 : Sd gd_mt M259 38 (i_psh (.int 1) 39) := sd_iconst dX8_findPairs_38 (by decide) rfl
theorem r259_39 : Sd gd_mt M259 39 (i_astZ 40) := sd_astZ dX8_findPairs_39 rfl
theorem r259_40 : Sd gd_mt M259 40 (i_psh (.int 1) 41) := sd_iconst dX8_findPairs_40 (by decide) rfl
theorem r259_41 : Sd gd_mt M259 41 (i_ist 3 42) := sd_istore_n dX8_findPairs_41 rfl (by decide) rfl
theorem r259_42 : Sd gd_mt M259 42 (i_msk [true, true, true, true] (i_ild 3 43)) := sd_msk _ (sd_iload_n dX8_findPairs_42 rfl rfl)
theorem r259_43 : Sd gd_mt M259 43 (i_psh (.int 12) 45) := sd_bipush dX8_findPairs_43 (by decide) rfl
theorem r259_45 : Sd gd_mt M259 45 (i_icgt 124 48) := sd_icgt dX8_findPairs_45 (by decide) rfl
theorem r259_48 : Sd gd_mt M259 48 (i_ald 0 49) := sd_aload_n dX8_findPairs_48 rfl rfl
theorem r259_49 : Sd gd_mt M259 49 (i_cV 219 0 8 52) := sd_cV2 e219 cal219 q1799 q1801 (rfl : gd_cl 8 = some _) qs60 dX8_findPairs_49 rfl
theorem r259_52 : Sd gd_mt M259 52 (i_msk [true, true, true, true] (i_ald 0 53)) := sd_msk _ (sd_aload_n dX8_findPairs_52 rfl rfl)
theorem r259_53 : Sd gd_mt M259 53 (i_getR 8 49 56) := sd_getR ck8 (by decide) rfl (.inl q1503) dX8_findPairs_53 rfl
theorem r259_56 : Sd gd_mt M259 56 (i_psh (.int 13) 58) := sd_bipush dX8_findPairs_56 (by decide) rfl
theorem r259_58 : Sd gd_mt M259 58 (i_ild 2 59) := sd_iload_n dX8_findPairs_58 rfl rfl
theorem r259_59 : Sd gd_mt M259 59 (i_imul 60) := sd_imul dX8_findPairs_59 rfl
theorem r259_60 : Sd gd_mt M259 60 (i_ild 3 61) := sd_iload_n dX8_findPairs_60 rfl rfl
theorem r259_61 : Sd gd_mt M259 61 (i_iadd 62) := sd_iadd dX8_findPairs_61 rfl
theorem r259_62 : Sd gd_mt M259 62 (i_ald 0 63) := sd_aload_n dX8_findPairs_62 rfl rfl
theorem r259_63 : Sd gd_mt M259 63 (i_getR 8 39 66) := sd_getR ck8 (by decide) rfl (.inl q1493) dX8_findPairs_63 rfl
theorem r259_66 : Sd gd_mt M259 66 (i_psh (.int 0) 67) := sd_iconst dX8_findPairs_66 (by decide) rfl
theorem r259_67 : Sd gd_mt M259 67 (i_ild 1 68) := sd_iload_n dX8_findPairs_67 rfl rfl
theorem r259_68 : Sd gd_mt M259 68 (i_iadd 69) := sd_iadd dX8_findPairs_68 rfl
theorem r259_69 : Sd gd_mt M259 69 (i_aldI 31 70) := sd_iald dX8_findPairs_69 rfl
theorem r259_70 : Sd gd_mt M259 70 (i_astI 71) := sd_astI dX8_findPairs_70 rfl
theorem r259_71 : Sd gd_mt M259 71 (i_ald 0 72) := sd_aload_n dX8_findPairs_71 rfl rfl
def cl259_0 : List (Nat × gd_I) := [(0, i_psh (.int 0) 1), (1, i_ist 2 2), (2, i_msk [true, true, true, false] (i_ild 2 3)), (3, i_psh (.int 100) 5), (5, i_icge 135 8), (8, i_ald 0 9), (9, i_cV 211 0 8 12), (12, i_msk [true, true, true, false] (i_ald 0 13)), (13, i_getR 8 39 16), (16, i_psh (.int 7) 18), (18, i_ild 1 19), (19, i_iadd 20), (20, i_ild 2 21), (21, i_psh (.int 10) 23), (23, i_idiv 24), (24, i_astI 25), (25, i_ald 0 26), (26, i_ild 2 27), (27, i_psh (.int 10) 29), (29, i_irem 30), (30, i_putI 8 42 33), (33, i_ald 0 34), (34, i_getR 8 50 37), (37, i_ild 2 38), (38, i_psh (.int 1) 39), (39, i_astZ 40), (40, i_psh (.int 1) 41), (41, i_ist 3 42), (42, i_msk [true, true, true, true] (i_ild 3 43)), (43, i_psh (.int 12) 45), (45, i_icgt 124 48), (48, i_ald 0 49), (49, i_cV 219 0 8 52), (52, i_msk [true, true, true, true] (i_ald 0 53)), (53, i_getR 8 49 56), (56, i_psh (.int 13) 58), (58, i_ild 2 59), (59, i_imul 60), (60, i_ild 3 61), (61, i_iadd 62), (62, i_ald 0 63), (63, i_getR 8 39 66), (66, i_psh (.int 0) 67), (67, i_ild 1 68), (68, i_iadd 69), (69, i_aldI 31 70), (70, i_astI 71), (71, i_ald 0 72)]
theorem cs259_0 : ∀ q ∈ cl259_0, Sd gd_mt M259 q.1 q.2 := gd_ac r259_0 (gd_ac r259_1 (gd_ac r259_2 (gd_ac r259_3 (gd_ac r259_5 (gd_ac r259_8 (gd_ac r259_9 (gd_ac r259_12 (gd_ac r259_13 (gd_ac r259_16 (gd_ac r259_18 (gd_ac r259_19 (gd_ac r259_20 (gd_ac r259_21 (gd_ac r259_23 (gd_ac r259_24 (gd_ac r259_25 (gd_ac r259_26 (gd_ac r259_27 (gd_ac r259_29 (gd_ac r259_30 (gd_ac r259_33 (gd_ac r259_34 (gd_ac r259_37 (gd_ac r259_38 (gd_ac r259_39 (gd_ac r259_40 (gd_ac r259_41 (gd_ac r259_42 (gd_ac r259_43 (gd_ac r259_45 (gd_ac r259_48 (gd_ac r259_49 (gd_ac r259_52 (gd_ac r259_53 (gd_ac r259_56 (gd_ac r259_58 (gd_ac r259_59 (gd_ac r259_60 (gd_ac r259_61 (gd_ac r259_62 (gd_ac r259_63 (gd_ac r259_66 (gd_ac r259_67 (gd_ac r259_68 (gd_ac r259_69 (gd_ac r259_70 (gd_ac r259_71 (gd_an))))))))))))))))))))))))))))))))))))))))))))))))
theorem r259_72 : Sd gd_mt M259 72 (i_getR 8 50 75) := sd_getR ck8 (by decide) rfl (.inl q1504) dX8_findPairs_72 rfl
theorem r259_75 : Sd gd_mt M259 75 (i_ild 2 76) := sd_iload_n dX8_findPairs_75 rfl rfl
theorem r259_76 : Sd gd_mt M259 76 (i_ald 0 77) := sd_aload_n dX8_findPairs_76 rfl rfl
theorem r259_77 : Sd gd_mt M259 77 (i_getR 8 50 80) := sd_getR ck8 (by decide) rfl (.inl q1504) dX8_findPairs_77 rfl
theorem r259_80 : Sd gd_mt M259 80 (i_ild 2 81) := sd_iload_n dX8_findPairs_80 rfl rfl
theorem r259_81 : Sd gd_mt M259 81 (i_aldI 33 82) := sd_zald dX8_findPairs_81 rfl
theorem r259_82 : Sd gd_mt M259 82 (i_ifeq 116 85) := sd_ifeq dX8_findPairs_82 (by decide) rfl
theorem r259_85 : Sd gd_mt M259 85 (i_ald 0 86) := sd_aload_n dX8_findPairs_85 rfl rfl
theorem r259_86 : Sd gd_mt M259 86 (i_getR 8 44 89) := sd_getR ck8 (by decide) rfl (.inl q1498) dX8_findPairs_86 rfl
theorem r259_89 : Sd gd_mt M259 89 (i_ild 3 90) := sd_iload_n dX8_findPairs_89 rfl rfl
theorem r259_90 : Sd gd_mt M259 90 (i_aldI 31 91) := sd_iald dX8_findPairs_90 rfl
theorem r259_91 : Sd gd_mt M259 91 (i_psh (.int (-1)) 92) := sd_iconst dX8_findPairs_91 (by decide) rfl
theorem r259_92 : Sd gd_mt M259 92 (i_iceq 112 95) := sd_iceq dX8_findPairs_92 (by decide) rfl
theorem r259_95 : Sd gd_mt M259 95 (i_ald 0 96) := sd_aload_n dX8_findPairs_95 rfl rfl
theorem r259_96 : Sd gd_mt M259 96 (i_getR 8 44 99) := sd_getR ck8 (by decide) rfl (.inl q1498) dX8_findPairs_96 rfl
theorem r259_99 : Sd gd_mt M259 99 (i_ild 3 100) := sd_iload_n dX8_findPairs_99 rfl rfl
theorem r259_100 : Sd gd_mt M259 100 (i_aldI 31 101) := sd_iald dX8_findPairs_100 rfl
theorem r259_101 : Sd gd_mt M259 101 (i_ald 0 102) := sd_aload_n dX8_findPairs_101 rfl rfl
theorem r259_102 : Sd gd_mt M259 102 (i_getR 8 39 105) := sd_getR ck8 (by decide) rfl (.inl q1493) dX8_findPairs_102 rfl
theorem r259_105 : Sd gd_mt M259 105 (i_psh (.int 0) 106) := sd_iconst dX8_findPairs_105 (by decide) rfl
theorem r259_106 : Sd gd_mt M259 106 (i_ild 1 107) := sd_iload_n dX8_findPairs_106 rfl rfl
theorem r259_107 : Sd gd_mt M259 107 (i_iadd 108) := sd_iadd dX8_findPairs_107 rfl
theorem r259_108 : Sd gd_mt M259 108 (i_aldI 31 109) := sd_iald dX8_findPairs_108 rfl
theorem r259_109 : Sd gd_mt M259 109 (i_icne 116 112) := sd_icne dX8_findPairs_109 (by decide) rfl
theorem r259_112 : Sd gd_mt M259 112 (i_msk [true, true, true, true] (i_psh (.int 1) 113)) := sd_msk _ (sd_iconst dX8_findPairs_112 (by decide) rfl)
theorem r259_113 : Sd gd_mt M259 113 (i_goto 117) := sd_goto dX8_findPairs_113 (by decide)
theorem r259_116 : Sd gd_mt M259 116 (i_msk [true, true, true, true] (i_psh (.int 0) 117)) := sd_msk _ (sd_iconst dX8_findPairs_116 (by decide) rfl)
theorem r259_117 : Sd gd_mt M259 117 (i_msk [true, true, true, true] (i_astZ 118)) := sd_msk _ (sd_astZ dX8_findPairs_117 rfl)
theorem r259_118 : Sd gd_mt M259 118 (i_inc 3 1 121) := sd_iinc dX8_findPairs_118 (by decide) (by decide) rfl
theorem r259_121 : Sd gd_mt M259 121 (i_goto 42) := sd_goto dX8_findPairs_121 (by decide)
theorem r259_124 : Sd gd_mt M259 124 (i_ald 0 125) := sd_aload_n dX8_findPairs_124 rfl rfl
theorem r259_125 : Sd gd_mt M259 125 (i_psh (.int (-1)) 126) := sd_iconst dX8_findPairs_125 (by decide) rfl
theorem r259_126 : Sd gd_mt M259 126 (i_putI 8 42 129) := sd_putI ck8 (by decide) rfl (.inl q1496) (.inl rfl) dX8_findPairs_126 rfl
theorem r259_129 : Sd gd_mt M259 129 (i_inc 2 1 132) := sd_iinc dX8_findPairs_129 (by decide) (by decide) rfl
theorem r259_132 : Sd gd_mt M259 132 (i_goto 2) := sd_goto dX8_findPairs_132 (by decide)
theorem r259_135 : Sd gd_mt M259 135 (i_ret) := sd_ret rfl dX8_findPairs_135
def cl259_1 : List (Nat × gd_I) := [(72, i_getR 8 50 75), (75, i_ild 2 76), (76, i_ald 0 77), (77, i_getR 8 50 80), (80, i_ild 2 81), (81, i_aldI 33 82), (82, i_ifeq 116 85), (85, i_ald 0 86), (86, i_getR 8 44 89), (89, i_ild 3 90), (90, i_aldI 31 91), (91, i_psh (.int (-1)) 92), (92, i_iceq 112 95), (95, i_ald 0 96), (96, i_getR 8 44 99), (99, i_ild 3 100), (100, i_aldI 31 101), (101, i_ald 0 102), (102, i_getR 8 39 105), (105, i_psh (.int 0) 106), (106, i_ild 1 107), (107, i_iadd 108), (108, i_aldI 31 109), (109, i_icne 116 112), (112, i_msk [true, true, true, true] (i_psh (.int 1) 113)), (113, i_goto 117), (116, i_msk [true, true, true, true] (i_psh (.int 0) 117)), (117, i_msk [true, true, true, true] (i_astZ 118)), (118, i_inc 3 1 121), (121, i_goto 42), (124, i_ald 0 125), (125, i_psh (.int (-1)) 126), (126, i_putI 8 42 129), (129, i_inc 2 1 132), (132, i_goto 2), (135, i_ret)]
theorem cs259_1 : ∀ q ∈ cl259_1, Sd gd_mt M259 q.1 q.2 := gd_ac r259_72 (gd_ac r259_75 (gd_ac r259_76 (gd_ac r259_77 (gd_ac r259_80 (gd_ac r259_81 (gd_ac r259_82 (gd_ac r259_85 (gd_ac r259_86 (gd_ac r259_89 (gd_ac r259_90 (gd_ac r259_91 (gd_ac r259_92 (gd_ac r259_95 (gd_ac r259_96 (gd_ac r259_99 (gd_ac r259_100 (gd_ac r259_101 (gd_ac r259_102 (gd_ac r259_105 (gd_ac r259_106 (gd_ac r259_107 (gd_ac r259_108 (gd_ac r259_109 (gd_ac r259_112 (gd_ac r259_113 (gd_ac r259_116 (gd_ac r259_117 (gd_ac r259_118 (gd_ac r259_121 (gd_ac r259_124 (gd_ac r259_125 (gd_ac r259_126 (gd_ac r259_129 (gd_ac r259_132 (gd_ac r259_135 (gd_an))))))))))))))))))))))))))))))))))))
def cd259 (pc : Nat) : gd_I := if pc < 72 then lkI cl259_0 pc else lkI cl259_1 pc
theorem cg259 : ∀ pc, Sd gd_mt M259 pc (cd259 pc) := by
  intro pc
  unfold cd259
  by_cases h0 : pc < 72
  · rw [if_pos h0]; exact sd_lk cs259_0 pc
  rw [if_neg h0]
  exact sd_lk cs259_1 pc
theorem r260_0 : Sd gd_mt M260 0 (i_ald 0 1) := sd_aload_n dX8_look_0 rfl rfl
theorem r260_1 : Sd gd_mt M260 1 (i_psh (.int 0) 2) := sd_iconst dX8_look_1 (by decide) rfl
theorem r260_2 : Sd gd_mt M260 2 (i_putI 8 0 5) := sd_putI ck8 (by decide) rfl (.inl q1454) (.inl rfl) dX8_look_2 rfl
theorem r260_5 : Sd gd_mt M260 5 (i_ald 0 6) := sd_aload_n dX8_look_5 rfl rfl
theorem r260_6 : Sd gd_mt M260 6 (i_ild 1 7) := sd_iload_n dX8_look_6 rfl rfl
theorem r260_7 : Sd gd_mt M260 7 (i_psh (.int 1) 8) := sd_iconst dX8_look_7 (by decide) rfl
theorem r260_8 : Sd gd_mt M260 8 (i_cV 239 2 8 11) := sd_cV2 e239 cal239 q1876 q1878 (rfl : gd_cl 8 = some _) qs72 dX8_look_8 rfl
theorem r260_11 : Sd gd_mt M260 11 (i_msk [true, true, true, false, false, false, false, false, false] (i_ifeq 29 14)) := sd_msk _ (sd_ifeq dX8_look_11 (by decide) rfl)
theorem r260_14 : Sd gd_mt M260 14 (i_ald 0 15) := sd_aload_n dX8_look_14 rfl rfl
theorem r260_15 : Sd gd_mt M260 15 (i_ild 2 16) := sd_iload_n dX8_look_15 rfl rfl
theorem r260_16 : Sd gd_mt M260 16 (i_psh (.int 0) 17) := sd_iconst dX8_look_16 (by decide) rfl
theorem r260_17 : Sd gd_mt M260 17 (i_psh (.int 1) 18) := sd_iconst dX8_look_17 (by decide) rfl
theorem r260_18 : Sd gd_mt M260 18 (i_cS 233 3 21) := sd_cS2 e233 cal233 q1853 q1854 dX8_look_18 rfl
theorem r260_21 : Sd gd_mt M260 21 (i_msk [true, true, true, false, false, false, false, false, false] (i_psh (.int 2) 22)) := sd_msk _ (sd_iconst dX8_look_21 (by decide) rfl)
theorem r260_22 : Sd gd_mt M260 22 (i_psh (.int 1) 23) := sd_iconst dX8_look_22 (by decide) rfl
theorem r260_23 : Sd gd_mt M260 23 (i_cV 183 3 8 26) := sd_cV2 e183 cal183 q1639 q1641 (rfl : gd_cl 8 = some _) qs30 dX8_look_23 rfl
theorem r260_26 : Sd gd_mt M260 26 (i_msk [true, true, true, false, false, false, false, false, false] (i_ifne 31 29)) := sd_msk _ (sd_ifne dX8_look_26 (by decide) rfl)
theorem r260_29 : Sd gd_mt M260 29 (i_msk [false, false, false, false, false, false, false, false, false] (i_psh (.int 0) 30)) := sd_msk _ (sd_iconst dX8_look_29 (by decide) rfl)
theorem r260_30 : Sd gd_mt M260 30 (i_iret) := sd_iret rfl dX8_look_30
theorem r260_31 : Sd gd_mt M260 31 (i_ald 0 32) := sd_aload_n dX8_look_31 rfl rfl
theorem r260_32 : Sd gd_mt M260 32 (i_ild 1 33) := sd_iload_n dX8_look_32 rfl rfl
theorem r260_33 : Sd gd_mt M260 33 (i_cV 259 1 8 36) := sd_cV2 e259 cal259 q1954 q1956 (rfl : gd_cl 8 = some _) qs79 dX8_look_33 rfl
theorem r260_36 : Sd gd_mt M260 36 (i_msk [true, false, true, false, false, false, false, false, false] (i_psh (.int (-1)) 37)) := sd_msk _ (sd_iconst dX8_look_36 (by decide) rfl)
theorem r260_37 : Sd gd_mt M260 37 (i_ist 3 38) := sd_istore_n dX8_look_37 rfl (by decide) rfl
theorem r260_38 : Sd gd_mt M260 38 (i_psh (.int (-1)) 39) := sd_iconst dX8_look_38 (by decide) rfl
theorem r260_39 : Sd gd_mt M260 39 (i_ist 4 41) := sd_istore dX8_look_39 (by decide) rfl
theorem r260_41 : Sd gd_mt M260 41 (i_psh (.int 1) 42) := sd_iconst dX8_look_41 (by decide) rfl
theorem r260_42 : Sd gd_mt M260 42 (i_ist 5 44) := sd_istore dX8_look_42 (by decide) rfl
theorem r260_44 : Sd gd_mt M260 44 (i_msk [true, false, true, true, true, true, false, false, false] (i_ild 5 46)) := sd_msk _ (sd_iload dX8_look_44 rfl)
theorem r260_46 : Sd gd_mt M260 46 (i_psh (.int 12) 48) := sd_bipush dX8_look_46 (by decide) rfl
theorem r260_48 : Sd gd_mt M260 48 (i_icgt 202 51) := sd_icgt dX8_look_48 (by decide) rfl
theorem r260_51 : Sd gd_mt M260 51 (i_ald 0 52) := sd_aload_n dX8_look_51 rfl rfl
theorem r260_52 : Sd gd_mt M260 52 (i_getR 8 44 55) := sd_getR ck8 (by decide) rfl (.inl q1498) dX8_look_52 rfl
theorem r260_55 : Sd gd_mt M260 55 (i_ild 5 57) := sd_iload dX8_look_55 rfl
theorem r260_57 : Sd gd_mt M260 57 (i_aldI 31 58) := sd_iald dX8_look_57 rfl
theorem r260_58 : Sd gd_mt M260 58 (i_psh (.int (-1)) 59) := sd_iconst dX8_look_58 (by decide) rfl
theorem r260_59 : Sd gd_mt M260 59 (i_iceq 65 62) := sd_iceq dX8_look_59 (by decide) rfl
theorem r260_62 : Sd gd_mt M260 62 (i_goto 196) := sd_goto dX8_look_62 (by decide)
theorem r260_65 : Sd gd_mt M260 65 (i_psh (.int 0) 66) := sd_iconst dX8_look_65 (by decide) rfl
theorem r260_66 : Sd gd_mt M260 66 (i_ist 6 68) := sd_istore dX8_look_66 (by decide) rfl
theorem r260_68 : Sd gd_mt M260 68 (i_msk [true, false, true, true, true, true, true, false, false] (i_ild 6 70)) := sd_msk _ (sd_iload dX8_look_68 rfl)
theorem r260_70 : Sd gd_mt M260 70 (i_psh (.int 999) 73) := sd_sipush dX8_look_70 (by decide) rfl
theorem r260_73 : Sd gd_mt M260 73 (i_icgt 90 76) := sd_icgt dX8_look_73 (by decide) rfl
theorem r260_76 : Sd gd_mt M260 76 (i_ald 0 77) := sd_aload_n dX8_look_76 rfl rfl
theorem r260_77 : Sd gd_mt M260 77 (i_getR 8 51 80) := sd_getR ck8 (by decide) rfl (.inl q1505) dX8_look_77 rfl
theorem r260_80 : Sd gd_mt M260 80 (i_ild 6 82) := sd_iload dX8_look_80 rfl
theorem r260_82 : Sd gd_mt M260 82 (i_psh (.int 0) 83) := sd_iconst dX8_look_82 (by decide) rfl
theorem r260_83 : Sd gd_mt M260 83 (i_astI 84) := sd_astI dX8_look_83 rfl
def cl260_0 : List (Nat × gd_I) := [(0, i_ald 0 1), (1, i_psh (.int 0) 2), (2, i_putI 8 0 5), (5, i_ald 0 6), (6, i_ild 1 7), (7, i_psh (.int 1) 8), (8, i_cV 239 2 8 11), (11, i_msk [true, true, true, false, false, false, false, false, false] (i_ifeq 29 14)), (14, i_ald 0 15), (15, i_ild 2 16), (16, i_psh (.int 0) 17), (17, i_psh (.int 1) 18), (18, i_cS 233 3 21), (21, i_msk [true, true, true, false, false, false, false, false, false] (i_psh (.int 2) 22)), (22, i_psh (.int 1) 23), (23, i_cV 183 3 8 26), (26, i_msk [true, true, true, false, false, false, false, false, false] (i_ifne 31 29)), (29, i_msk [false, false, false, false, false, false, false, false, false] (i_psh (.int 0) 30)), (30, i_iret), (31, i_ald 0 32), (32, i_ild 1 33), (33, i_cV 259 1 8 36), (36, i_msk [true, false, true, false, false, false, false, false, false] (i_psh (.int (-1)) 37)), (37, i_ist 3 38), (38, i_psh (.int (-1)) 39), (39, i_ist 4 41), (41, i_psh (.int 1) 42), (42, i_ist 5 44), (44, i_msk [true, false, true, true, true, true, false, false, false] (i_ild 5 46)), (46, i_psh (.int 12) 48), (48, i_icgt 202 51), (51, i_ald 0 52), (52, i_getR 8 44 55), (55, i_ild 5 57), (57, i_aldI 31 58), (58, i_psh (.int (-1)) 59), (59, i_iceq 65 62), (62, i_goto 196), (65, i_psh (.int 0) 66), (66, i_ist 6 68), (68, i_msk [true, false, true, true, true, true, true, false, false] (i_ild 6 70)), (70, i_psh (.int 999) 73), (73, i_icgt 90 76), (76, i_ald 0 77), (77, i_getR 8 51 80), (80, i_ild 6 82), (82, i_psh (.int 0) 83), (83, i_astI 84)]
theorem cs260_0 : ∀ q ∈ cl260_0, Sd gd_mt M260 q.1 q.2 := gd_ac r260_0 (gd_ac r260_1 (gd_ac r260_2 (gd_ac r260_5 (gd_ac r260_6 (gd_ac r260_7 (gd_ac r260_8 (gd_ac r260_11 (gd_ac r260_14 (gd_ac r260_15 (gd_ac r260_16 (gd_ac r260_17 (gd_ac r260_18 (gd_ac r260_21 (gd_ac r260_22 (gd_ac r260_23 (gd_ac r260_26 (gd_ac r260_29 (gd_ac r260_30 (gd_ac r260_31 (gd_ac r260_32 (gd_ac r260_33 (gd_ac r260_36 (gd_ac r260_37 (gd_ac r260_38 (gd_ac r260_39 (gd_ac r260_41 (gd_ac r260_42 (gd_ac r260_44 (gd_ac r260_46 (gd_ac r260_48 (gd_ac r260_51 (gd_ac r260_52 (gd_ac r260_55 (gd_ac r260_57 (gd_ac r260_58 (gd_ac r260_59 (gd_ac r260_62 (gd_ac r260_65 (gd_ac r260_66 (gd_ac r260_68 (gd_ac r260_70 (gd_ac r260_73 (gd_ac r260_76 (gd_ac r260_77 (gd_ac r260_80 (gd_ac r260_82 (gd_ac r260_83 (gd_an))))))))))))))))))))))))))))))))))))))))))))))))
theorem r260_84 : Sd gd_mt M260 84 (i_inc 6 1 87) := sd_iinc dX8_look_84 (by decide) (by decide) rfl
theorem r260_87 : Sd gd_mt M260 87 (i_goto 68) := sd_goto dX8_look_87 (by decide)
theorem r260_90 : Sd gd_mt M260 90 (i_psh (.int 0) 91) := sd_iconst dX8_look_90 (by decide) rfl
theorem r260_91 : Sd gd_mt M260 91 (i_ist 6 93) := sd_istore dX8_look_91 (by decide) rfl
theorem r260_93 : Sd gd_mt M260 93 (i_psh (.int 0) 94) := sd_iconst dX8_look_93 (by decide) rfl
theorem r260_94 : Sd gd_mt M260 94 (i_ist 7 96) := sd_istore dX8_look_94 (by decide) rfl
theorem r260_96 : Sd gd_mt M260 96 (i_msk [true, false, true, true, true, true, true, true, false] (i_ild 7 98)) := sd_msk _ (sd_iload dX8_look_96 rfl)
theorem r260_98 : Sd gd_mt M260 98 (i_psh (.int 100) 100) := sd_bipush dX8_look_98 (by decide) rfl
theorem r260_100 : Sd gd_mt M260 100 (i_icge 174 103) := sd_icge dX8_look_100 (by decide) rfl
theorem r260_103 : Sd gd_mt M260 103 (i_ald 0 104) := sd_aload_n dX8_look_103 rfl rfl
theorem r260_104 : Sd gd_mt M260 104 (i_getR 8 50 107) := sd_getR ck8 (by decide) rfl (.inl q1504) dX8_look_104 rfl
theorem r260_107 : Sd gd_mt M260 107 (i_ild 7 109) := sd_iload dX8_look_107 rfl
theorem r260_109 : Sd gd_mt M260 109 (i_aldI 33 110) := sd_zald dX8_look_109 rfl
theorem r260_110 : Sd gd_mt M260 110 (i_ifne 116 113) := sd_ifne dX8_look_110 (by decide) rfl
theorem r260_113 : Sd gd_mt M260 113 (i_goto 168) := sd_goto dX8_look_113 (by decide)
theorem r260_116 : Sd gd_mt M260 116 (i_ald 0 117) := sd_aload_n dX8_look_116 rfl rfl
theorem r260_117 : Sd gd_mt M260 117 (i_getR 8 49 120) := sd_getR ck8 (by decide) rfl (.inl q1503) dX8_look_117 rfl
theorem r260_120 : Sd gd_mt M260 120 (i_psh (.int 13) 122) := sd_bipush dX8_look_120 (by decide) rfl
theorem r260_122 : Sd gd_mt M260 122 (i_ild 7 124) := sd_iload dX8_look_122 rfl
theorem r260_124 : Sd gd_mt M260 124 (i_imul 125) := sd_imul dX8_look_124 rfl
theorem r260_125 : Sd gd_mt M260 125 (i_ild 5 127) := sd_iload dX8_look_125 rfl
theorem r260_127 : Sd gd_mt M260 127 (i_iadd 128) := sd_iadd dX8_look_127 rfl
theorem r260_128 : Sd gd_mt M260 128 (i_aldI 31 129) := sd_iald dX8_look_128 rfl
theorem r260_129 : Sd gd_mt M260 129 (i_ist 8 131) := sd_istore dX8_look_129 (by decide) rfl
theorem r260_131 : Sd gd_mt M260 131 (i_ald 0 132) := sd_aload_n dX8_look_131 rfl rfl
theorem r260_132 : Sd gd_mt M260 132 (i_getR 8 51 135) := sd_getR ck8 (by decide) rfl (.inl q1505) dX8_look_132 rfl
theorem r260_135 : Sd gd_mt M260 135 (i_ild 8 137) := sd_iload dX8_look_135 rfl
theorem r260_137 : Sd gd_mt M260 137 (i_dup2 138) := sd_dup2 dX8_look_137 rfl
theorem r260_138 : Sd gd_mt M260 138 (i_aldI 31 139) := sd_iald dX8_look_138 rfl
theorem r260_139 : Sd gd_mt M260 139 (i_psh (.int 1) 140) := sd_iconst dX8_look_139 (by decide) rfl
theorem r260_140 : Sd gd_mt M260 140 (i_iadd 141) := sd_iadd dX8_look_140 rfl
theorem r260_141 : Sd gd_mt M260 141 (i_astI 142) := sd_astI dX8_look_141 rfl
theorem r260_142 : Sd gd_mt M260 142 (i_ald 0 143) := sd_aload_n dX8_look_142 rfl rfl
theorem r260_143 : Sd gd_mt M260 143 (i_getR 8 51 146) := sd_getR ck8 (by decide) rfl (.inl q1505) dX8_look_143 rfl
theorem r260_146 : Sd gd_mt M260 146 (i_ild 8 148) := sd_iload dX8_look_146 rfl
theorem r260_148 : Sd gd_mt M260 148 (i_aldI 31 149) := sd_iald dX8_look_148 rfl
theorem r260_149 : Sd gd_mt M260 149 (i_ild 6 151) := sd_iload dX8_look_149 rfl
theorem r260_151 : Sd gd_mt M260 151 (i_icle 164 154) := sd_icle dX8_look_151 (by decide) rfl
theorem r260_154 : Sd gd_mt M260 154 (i_ald 0 155) := sd_aload_n dX8_look_154 rfl rfl
theorem r260_155 : Sd gd_mt M260 155 (i_getR 8 51 158) := sd_getR ck8 (by decide) rfl (.inl q1505) dX8_look_155 rfl
theorem r260_158 : Sd gd_mt M260 158 (i_ild 8 160) := sd_iload dX8_look_158 rfl
theorem r260_160 : Sd gd_mt M260 160 (i_aldI 31 161) := sd_iald dX8_look_160 rfl
theorem r260_161 : Sd gd_mt M260 161 (i_goto 166) := sd_goto dX8_look_161 (by decide)
theorem r260_164 : Sd gd_mt M260 164 (i_ild 6 166) := sd_iload dX8_look_164 rfl
theorem r260_166 : Sd gd_mt M260 166 (i_msk [true, false, true, true, true, true, false, true, false] (i_ist 6 168)) := sd_msk _ (sd_istore dX8_look_166 (by decide) rfl)
theorem r260_168 : Sd gd_mt M260 168 (i_msk [true, false, true, true, true, true, true, true, false] (i_inc 7 1 171)) := sd_msk _ (sd_iinc dX8_look_168 (by decide) (by decide) rfl)
theorem r260_171 : Sd gd_mt M260 171 (i_goto 96) := sd_goto dX8_look_171 (by decide)
theorem r260_174 : Sd gd_mt M260 174 (i_ild 3 175) := sd_iload_n dX8_look_174 rfl rfl
def cl260_1 : List (Nat × gd_I) := [(84, i_inc 6 1 87), (87, i_goto 68), (90, i_psh (.int 0) 91), (91, i_ist 6 93), (93, i_psh (.int 0) 94), (94, i_ist 7 96), (96, i_msk [true, false, true, true, true, true, true, true, false] (i_ild 7 98)), (98, i_psh (.int 100) 100), (100, i_icge 174 103), (103, i_ald 0 104), (104, i_getR 8 50 107), (107, i_ild 7 109), (109, i_aldI 33 110), (110, i_ifne 116 113), (113, i_goto 168), (116, i_ald 0 117), (117, i_getR 8 49 120), (120, i_psh (.int 13) 122), (122, i_ild 7 124), (124, i_imul 125), (125, i_ild 5 127), (127, i_iadd 128), (128, i_aldI 31 129), (129, i_ist 8 131), (131, i_ald 0 132), (132, i_getR 8 51 135), (135, i_ild 8 137), (137, i_dup2 138), (138, i_aldI 31 139), (139, i_psh (.int 1) 140), (140, i_iadd 141), (141, i_astI 142), (142, i_ald 0 143), (143, i_getR 8 51 146), (146, i_ild 8 148), (148, i_aldI 31 149), (149, i_ild 6 151), (151, i_icle 164 154), (154, i_ald 0 155), (155, i_getR 8 51 158), (158, i_ild 8 160), (160, i_aldI 31 161), (161, i_goto 166), (164, i_ild 6 166), (166, i_msk [true, false, true, true, true, true, false, true, false] (i_ist 6 168)), (168, i_msk [true, false, true, true, true, true, true, true, false] (i_inc 7 1 171)), (171, i_goto 96), (174, i_ild 3 175)]
theorem cs260_1 : ∀ q ∈ cl260_1, Sd gd_mt M260 q.1 q.2 := gd_ac r260_84 (gd_ac r260_87 (gd_ac r260_90 (gd_ac r260_91 (gd_ac r260_93 (gd_ac r260_94 (gd_ac r260_96 (gd_ac r260_98 (gd_ac r260_100 (gd_ac r260_103 (gd_ac r260_104 (gd_ac r260_107 (gd_ac r260_109 (gd_ac r260_110 (gd_ac r260_113 (gd_ac r260_116 (gd_ac r260_117 (gd_ac r260_120 (gd_ac r260_122 (gd_ac r260_124 (gd_ac r260_125 (gd_ac r260_127 (gd_ac r260_128 (gd_ac r260_129 (gd_ac r260_131 (gd_ac r260_132 (gd_ac r260_135 (gd_ac r260_137 (gd_ac r260_138 (gd_ac r260_139 (gd_ac r260_140 (gd_ac r260_141 (gd_ac r260_142 (gd_ac r260_143 (gd_ac r260_146 (gd_ac r260_148 (gd_ac r260_149 (gd_ac r260_151 (gd_ac r260_154 (gd_ac r260_155 (gd_ac r260_158 (gd_ac r260_160 (gd_ac r260_161 (gd_ac r260_164 (gd_ac r260_166 (gd_ac r260_168 (gd_ac r260_171 (gd_ac r260_174 (gd_an))))))))))))))))))))))))))))))))))))))))))))))))
theorem r260_175 : Sd gd_mt M260 175 (i_psh (.int (-1)) 176) := sd_iconst dX8_look_175 (by decide) rfl
theorem r260_176 : Sd gd_mt M260 176 (i_iceq 189 179) := sd_iceq dX8_look_176 (by decide) rfl
theorem r260_179 : Sd gd_mt M260 179 (i_ild 6 181) := sd_iload dX8_look_179 rfl
theorem r260_181 : Sd gd_mt M260 181 (i_ild 4 183) := sd_iload dX8_look_181 rfl
theorem r260_183 : Sd gd_mt M260 183 (i_iclt 189 186) := sd_iclt dX8_look_183 (by decide) rfl
theorem r260_186 : Sd gd_mt M260 186 (i_goto 196) := sd_goto dX8_look_186 (by decide)
theorem r260_189 : Sd gd_mt M260 189 (i_msk [true, false, true, false, false, true, true, false, false] (i_ild 5 191)) := sd_msk _ (sd_iload dX8_look_189 rfl)
theorem r260_191 : Sd gd_mt M260 191 (i_ist 3 192) := sd_istore_n dX8_look_191 rfl (by decide) rfl
theorem r260_192 : Sd gd_mt M260 192 (i_ild 6 194) := sd_iload dX8_look_192 rfl
theorem r260_194 : Sd gd_mt M260 194 (i_ist 4 196) := sd_istore dX8_look_194 (by decide) rfl
theorem r260_196 : Sd gd_mt M260 196 (i_msk [true, false, true, true, true, true, false, false, false] (i_inc 5 1 199)) := sd_msk _ (sd_iinc dX8_look_196 (by decide) (by decide) rfl)
theorem r260_199 : Sd gd_mt M260 199 (i_goto 44) := sd_goto dX8_look_199 (by decide)
theorem r260_202 : Sd gd_mt M260 202 (i_ild 2 203) := sd_iload_n dX8_look_202 rfl rfl
theorem r260_203 : Sd gd_mt M260 203 (i_ifne 210 206) := sd_ifne dX8_look_203 (by decide) rfl
theorem r260_206 : Sd gd_mt M260 206 (i_ild 3 207) := sd_iload_n dX8_look_206 rfl rfl
theorem r260_207 : Sd gd_mt M260 207 (i_goto 212) := sd_goto dX8_look_207 (by decide)
theorem r260_210 : Sd gd_mt M260 210 (i_ild 4 212) := sd_iload dX8_look_210 rfl
theorem r260_212 : Sd gd_mt M260 212 (i_msk [false, false, false, false, false, false, false, false, false] (i_iret)) := sd_msk _ (sd_iret rfl dX8_look_212)
def cl260_2 : List (Nat × gd_I) := [(175, i_psh (.int (-1)) 176), (176, i_iceq 189 179), (179, i_ild 6 181), (181, i_ild 4 183), (183, i_iclt 189 186), (186, i_goto 196), (189, i_msk [true, false, true, false, false, true, true, false, false] (i_ild 5 191)), (191, i_ist 3 192), (192, i_ild 6 194), (194, i_ist 4 196), (196, i_msk [true, false, true, true, true, true, false, false, false] (i_inc 5 1 199)), (199, i_goto 44), (202, i_ild 2 203), (203, i_ifne 210 206), (206, i_ild 3 207), (207, i_goto 212), (210, i_ild 4 212), (212, i_msk [false, false, false, false, false, false, false, false, false] (i_iret))]
theorem cs260_2 : ∀ q ∈ cl260_2, Sd gd_mt M260 q.1 q.2 := gd_ac r260_175 (gd_ac r260_176 (gd_ac r260_179 (gd_ac r260_181 (gd_ac r260_183 (gd_ac r260_186 (gd_ac r260_189 (gd_ac r260_191 (gd_ac r260_192 (gd_ac r260_194 (gd_ac r260_196 (gd_ac r260_199 (gd_ac r260_202 (gd_ac r260_203 (gd_ac r260_206 (gd_ac r260_207 (gd_ac r260_210 (gd_ac r260_212 (gd_an))))))))))))))))))
def cd260 (pc : Nat) : gd_I := if pc < 84 then lkI cl260_0 pc else if pc < 175 then lkI cl260_1 pc else lkI cl260_2 pc
theorem cg260 : ∀ pc, Sd gd_mt M260 pc (cd260 pc) := by
  intro pc
  unfold cd260
  by_cases h0 : pc < 84
  · rw [if_pos h0]; exact sd_lk cs260_0 pc
  rw [if_neg h0]
  by_cases h1 : pc < 175
  · rw [if_pos h1]; exact sd_lk cs260_1 pc
  rw [if_neg h1]
  exact sd_lk cs260_2 pc
theorem r261_0 : Sd gd_mt M261 0 (i_ald 0 1) := sd_aload_n dX8_run_0 rfl rfl
theorem r261_1 : Sd gd_mt M261 1 (i_psh (.int 0) 2) := sd_iconst dX8_run_1 (by decide) rfl
theorem r261_2 : Sd gd_mt M261 2 (i_putI 8 0 5) := sd_putI ck8 (by decide) rfl (.inl q1454) (.inl rfl) dX8_run_2 rfl
theorem r261_5 : Sd gd_mt M261 5 (i_ald 0 6) := sd_aload_n dX8_run_5 rfl rfl
theorem r261_6 : Sd gd_mt M261 6 (i_ild 1 7) := sd_iload_n dX8_run_6 rfl rfl
theorem r261_7 : Sd gd_mt M261 7 (i_psh (.int 0) 8) := sd_iconst dX8_run_7 (by decide) rfl
theorem r261_8 : Sd gd_mt M261 8 (i_psh (.int 12) 10) := sd_bipush dX8_run_8 (by decide) rfl
theorem r261_10 : Sd gd_mt M261 10 (i_cS 233 3 13) := sd_cS2 e233 cal233 q1853 q1854 dX8_run_10 rfl
theorem r261_13 : Sd gd_mt M261 13 (i_msk [true, true, true, true, true, false, false, false, false, false, false] (i_ifeq 50 16)) := sd_msk _ (sd_ifeq dX8_run_13 (by decide) rfl)
theorem r261_16 : Sd gd_mt M261 16 (i_ild 2 17) := sd_iload_n dX8_run_16 rfl rfl
theorem r261_17 : Sd gd_mt M261 17 (i_psh (.int 0) 18) := sd_iconst dX8_run_17 (by decide) rfl
theorem r261_18 : Sd gd_mt M261 18 (i_psh (.int 12) 20) := sd_bipush dX8_run_18 (by decide) rfl
theorem r261_20 : Sd gd_mt M261 20 (i_cS 233 3 23) := sd_cS2 e233 cal233 q1853 q1854 dX8_run_20 rfl
theorem r261_23 : Sd gd_mt M261 23 (i_msk [true, true, true, true, true, false, false, false, false, false, false] (i_ifeq 50 26)) := sd_msk _ (sd_ifeq dX8_run_23 (by decide) rfl)
theorem r261_26 : Sd gd_mt M261 26 (i_ild 3 27) := sd_iload_n dX8_run_26 rfl rfl
theorem r261_27 : Sd gd_mt M261 27 (i_psh (.int 0) 28) := sd_iconst dX8_run_27 (by decide) rfl
theorem r261_28 : Sd gd_mt M261 28 (i_psh (.int 16) 30) := sd_bipush dX8_run_28 (by decide) rfl
theorem r261_30 : Sd gd_mt M261 30 (i_cS 233 3 33) := sd_cS2 e233 cal233 q1853 q1854 dX8_run_30 rfl
theorem r261_33 : Sd gd_mt M261 33 (i_msk [true, true, true, true, true, false, false, false, false, false, false] (i_ifeq 50 36)) := sd_msk _ (sd_ifeq dX8_run_33 (by decide) rfl)
theorem r261_36 : Sd gd_mt M261 36 (i_ild 4 38) := sd_iload dX8_run_36 rfl
theorem r261_38 : Sd gd_mt M261 38 (i_psh (.int 0) 39) := sd_iconst dX8_run_38 (by decide) rfl
theorem r261_39 : Sd gd_mt M261 39 (i_psh (.int 1) 40) := sd_iconst dX8_run_39 (by decide) rfl
theorem r261_40 : Sd gd_mt M261 40 (i_cS 233 3 43) := sd_cS2 e233 cal233 q1853 q1854 dX8_run_40 rfl
theorem r261_43 : Sd gd_mt M261 43 (i_msk [true, true, true, true, true, false, false, false, false, false, false] (i_ifeq 50 46)) := sd_msk _ (sd_ifeq dX8_run_43 (by decide) rfl)
theorem r261_46 : Sd gd_mt M261 46 (i_psh (.int 1) 47) := sd_iconst dX8_run_46 (by decide) rfl
theorem r261_47 : Sd gd_mt M261 47 (i_goto 51) := sd_goto dX8_run_47 (by decide)
theorem r261_50 : Sd gd_mt M261 50 (i_msk [true, true, true, true, true, false, false, false, false, false, false] (i_psh (.int 0) 51)) := sd_msk _ (sd_iconst dX8_run_50 (by decide) rfl)
theorem r261_51 : Sd gd_mt M261 51 (i_msk [true, true, true, true, true, false, false, false, false, false, false] (i_psh (.int 1) 52)) := sd_msk _ (sd_iconst dX8_run_51 (by decide) rfl)
theorem r261_52 : Sd gd_mt M261 52 (i_psh (.int 1) 53) := sd_iconst dX8_run_52 (by decide) rfl
theorem r261_53 : Sd gd_mt M261 53 (i_cV 183 3 8 56) := sd_cV2 e183 cal183 q1639 q1641 (rfl : gd_cl 8 = some _) qs30 dX8_run_53 rfl
theorem r261_56 : Sd gd_mt M261 56 (i_msk [true, true, true, true, true, false, false, false, false, false, false] (i_ifne 61 59)) := sd_msk _ (sd_ifne dX8_run_56 (by decide) rfl)
theorem r261_59 : Sd gd_mt M261 59 (i_psh (.long 0) 60) := sd_lconst dX8_run_59 (by decide) rfl
theorem r261_60 : Sd gd_mt M261 60 (i_lret) := sd_lret rfl dX8_run_60
theorem r261_61 : Sd gd_mt M261 61 (i_psh (.int 0) 62) := sd_iconst dX8_run_61 (by decide) rfl
theorem r261_62 : Sd gd_mt M261 62 (i_ist 5 64) := sd_istore dX8_run_62 (by decide) rfl
theorem r261_64 : Sd gd_mt M261 64 (i_msk [true, true, true, true, true, true, false, false, false, false, false] (i_ild 5 66)) := sd_msk _ (sd_iload dX8_run_64 rfl)
theorem r261_66 : Sd gd_mt M261 66 (i_psh (.int 14) 68) := sd_bipush dX8_run_66 (by decide) rfl
theorem r261_68 : Sd gd_mt M261 68 (i_icge 94 71) := sd_icge dX8_run_68 (by decide) rfl
theorem r261_71 : Sd gd_mt M261 71 (i_ald 0 72) := sd_aload_n dX8_run_71 rfl rfl
theorem r261_72 : Sd gd_mt M261 72 (i_getR 8 52 75) := sd_getR ck8 (by decide) rfl (.inl q1506) dX8_run_72 rfl
theorem r261_75 : Sd gd_mt M261 75 (i_ild 5 77) := sd_iload dX8_run_75 rfl
theorem r261_77 : Sd gd_mt M261 77 (i_ild 5 79) := sd_iload dX8_run_77 rfl
theorem r261_79 : Sd gd_mt M261 79 (i_ifne 86 82) := sd_ifne dX8_run_79 (by decide) rfl
theorem r261_82 : Sd gd_mt M261 82 (i_psh (.long 1) 83) := sd_lconst dX8_run_82 (by decide) rfl
theorem r261_83 : Sd gd_mt M261 83 (i_goto 87) := sd_goto dX8_run_83 (by decide)
theorem r261_86 : Sd gd_mt M261 86 (i_psh (.long 0) 87) := sd_lconst dX8_run_86 (by decide) rfl
theorem r261_87 : Sd gd_mt M261 87 (i_msk [true, true, true, true, true, true, false, false, false, false, false] (i_astJ 88)) := sd_msk _ (sd_astJ dX8_run_87 rfl)
theorem r261_88 : Sd gd_mt M261 88 (i_inc 5 1 91) := sd_iinc dX8_run_88 (by decide) (by decide) rfl
def cl261_0 : List (Nat × gd_I) := [(0, i_ald 0 1), (1, i_psh (.int 0) 2), (2, i_putI 8 0 5), (5, i_ald 0 6), (6, i_ild 1 7), (7, i_psh (.int 0) 8), (8, i_psh (.int 12) 10), (10, i_cS 233 3 13), (13, i_msk [true, true, true, true, true, false, false, false, false, false, false] (i_ifeq 50 16)), (16, i_ild 2 17), (17, i_psh (.int 0) 18), (18, i_psh (.int 12) 20), (20, i_cS 233 3 23), (23, i_msk [true, true, true, true, true, false, false, false, false, false, false] (i_ifeq 50 26)), (26, i_ild 3 27), (27, i_psh (.int 0) 28), (28, i_psh (.int 16) 30), (30, i_cS 233 3 33), (33, i_msk [true, true, true, true, true, false, false, false, false, false, false] (i_ifeq 50 36)), (36, i_ild 4 38), (38, i_psh (.int 0) 39), (39, i_psh (.int 1) 40), (40, i_cS 233 3 43), (43, i_msk [true, true, true, true, true, false, false, false, false, false, false] (i_ifeq 50 46)), (46, i_psh (.int 1) 47), (47, i_goto 51), (50, i_msk [true, true, true, true, true, false, false, false, false, false, false] (i_psh (.int 0) 51)), (51, i_msk [true, true, true, true, true, false, false, false, false, false, false] (i_psh (.int 1) 52)), (52, i_psh (.int 1) 53), (53, i_cV 183 3 8 56), (56, i_msk [true, true, true, true, true, false, false, false, false, false, false] (i_ifne 61 59)), (59, i_psh (.long 0) 60), (60, i_lret), (61, i_psh (.int 0) 62), (62, i_ist 5 64), (64, i_msk [true, true, true, true, true, true, false, false, false, false, false] (i_ild 5 66)), (66, i_psh (.int 14) 68), (68, i_icge 94 71), (71, i_ald 0 72), (72, i_getR 8 52 75), (75, i_ild 5 77), (77, i_ild 5 79), (79, i_ifne 86 82), (82, i_psh (.long 1) 83), (83, i_goto 87), (86, i_psh (.long 0) 87), (87, i_msk [true, true, true, true, true, true, false, false, false, false, false] (i_astJ 88)), (88, i_inc 5 1 91)]
theorem cs261_0 : ∀ q ∈ cl261_0, Sd gd_mt M261 q.1 q.2 := gd_ac r261_0 (gd_ac r261_1 (gd_ac r261_2 (gd_ac r261_5 (gd_ac r261_6 (gd_ac r261_7 (gd_ac r261_8 (gd_ac r261_10 (gd_ac r261_13 (gd_ac r261_16 (gd_ac r261_17 (gd_ac r261_18 (gd_ac r261_20 (gd_ac r261_23 (gd_ac r261_26 (gd_ac r261_27 (gd_ac r261_28 (gd_ac r261_30 (gd_ac r261_33 (gd_ac r261_36 (gd_ac r261_38 (gd_ac r261_39 (gd_ac r261_40 (gd_ac r261_43 (gd_ac r261_46 (gd_ac r261_47 (gd_ac r261_50 (gd_ac r261_51 (gd_ac r261_52 (gd_ac r261_53 (gd_ac r261_56 (gd_ac r261_59 (gd_ac r261_60 (gd_ac r261_61 (gd_ac r261_62 (gd_ac r261_64 (gd_ac r261_66 (gd_ac r261_68 (gd_ac r261_71 (gd_ac r261_72 (gd_ac r261_75 (gd_ac r261_77 (gd_ac r261_79 (gd_ac r261_82 (gd_ac r261_83 (gd_ac r261_86 (gd_ac r261_87 (gd_ac r261_88 (gd_an))))))))))))))))))))))))))))))))))))))))))))))))
theorem r261_91 : Sd gd_mt M261 91 (i_goto 64) := sd_goto dX8_run_91 (by decide)
theorem r261_94 : Sd gd_mt M261 94 (i_psh (.long 1) 95) := sd_lconst dX8_run_94 (by decide) rfl
theorem r261_95 : Sd gd_mt M261 95 (i_lst 5 97) := sd_lstore dX8_run_95 (by decide) rfl
theorem r261_97 : Sd gd_mt M261 97 (i_psh (.int 0) 98) := sd_iconst dX8_run_97 (by decide) rfl
theorem r261_98 : Sd gd_mt M261 98 (i_ist 7 100) := sd_istore dX8_run_98 (by decide) rfl
theorem r261_100 : Sd gd_mt M261 100 (i_msk [true, true, true, true, true, true, false, true, false, false, false] (i_ild 7 102)) := sd_msk _ (sd_iload dX8_run_100 rfl)
theorem r261_102 : Sd gd_mt M261 102 (i_ild 1 103) := sd_iload_n dX8_run_102 rfl rfl
theorem r261_103 : Sd gd_mt M261 103 (i_icge 231 106) := sd_icge dX8_run_103 (by decide) rfl
theorem r261_106 : Sd gd_mt M261 106 (i_ild 2 107) := sd_iload_n dX8_run_106 rfl rfl
theorem r261_107 : Sd gd_mt M261 107 (i_ifle 231 110) := sd_ifle dX8_run_107 (by decide) rfl
theorem r261_110 : Sd gd_mt M261 110 (i_psh (.long 0) 111) := sd_lconst dX8_run_110 (by decide) rfl
theorem r261_111 : Sd gd_mt M261 111 (i_lst 8 113) := sd_lstore dX8_run_111 (by decide) rfl
theorem r261_113 : Sd gd_mt M261 113 (i_psh (.int 0) 114) := sd_iconst dX8_run_113 (by decide) rfl
theorem r261_114 : Sd gd_mt M261 114 (i_ist 10 116) := sd_istore dX8_run_114 (by decide) rfl
theorem r261_116 : Sd gd_mt M261 116 (i_msk [true, true, true, true, true, true, false, true, true, false, true] (i_ild 10 118)) := sd_msk _ (sd_iload dX8_run_116 rfl)
theorem r261_118 : Sd gd_mt M261 118 (i_ild 2 119) := sd_iload_n dX8_run_118 rfl rfl
theorem r261_119 : Sd gd_mt M261 119 (i_icge 146 122) := sd_icge dX8_run_119 (by decide) rfl
theorem r261_122 : Sd gd_mt M261 122 (i_lld 8 124) := sd_lload dX8_run_122 rfl
theorem r261_124 : Sd gd_mt M261 124 (i_ald 0 125) := sd_aload_n dX8_run_124 rfl rfl
theorem r261_125 : Sd gd_mt M261 125 (i_getR 8 52 128) := sd_getR ck8 (by decide) rfl (.inl q1506) dX8_run_125 rfl
theorem r261_128 : Sd gd_mt M261 128 (i_ild 10 130) := sd_iload dX8_run_128 rfl
theorem r261_130 : Sd gd_mt M261 130 (i_aldJ 131) := sd_lald dX8_run_130 rfl
theorem r261_131 : Sd gd_mt M261 131 (i_psh (.int 16) 133) := sd_bipush dX8_run_131 (by decide) rfl
theorem r261_133 : Sd gd_mt M261 133 (i_ild 3 134) := sd_iload_n dX8_run_133 rfl rfl
theorem r261_134 : Sd gd_mt M261 134 (i_isub 135) := sd_isub dX8_run_134 rfl
theorem r261_135 : Sd gd_mt M261 135 (i_i2l 136) := sd_i2l dX8_run_135 rfl
theorem r261_136 : Sd gd_mt M261 136 (i_lmul 137) := sd_lmul dX8_run_136 rfl
theorem r261_137 : Sd gd_mt M261 137 (i_ladd 138) := sd_ladd dX8_run_137 rfl
theorem r261_138 : Sd gd_mt M261 138 (i_lst 8 140) := sd_lstore dX8_run_138 (by decide) rfl
theorem r261_140 : Sd gd_mt M261 140 (i_inc 10 1 143) := sd_iinc dX8_run_140 (by decide) (by decide) rfl
theorem r261_143 : Sd gd_mt M261 143 (i_goto 116) := sd_goto dX8_run_143 (by decide)
theorem r261_146 : Sd gd_mt M261 146 (i_ald 0 147) := sd_aload_n dX8_run_146 rfl rfl
theorem r261_147 : Sd gd_mt M261 147 (i_getR 8 52 150) := sd_getR ck8 (by decide) rfl (.inl q1506) dX8_run_147 rfl
theorem r261_150 : Sd gd_mt M261 150 (i_ild 2 151) := sd_iload_n dX8_run_150 rfl rfl
theorem r261_151 : Sd gd_mt M261 151 (i_psh (.long 16) 154) := sd_ldc2 dX8_run_151 q1966 rfl
theorem r261_154 : Sd gd_mt M261 154 (i_ald 0 155) := sd_aload_n dX8_run_154 rfl rfl
theorem r261_155 : Sd gd_mt M261 155 (i_getR 8 52 158) := sd_getR ck8 (by decide) rfl (.inl q1506) dX8_run_155 rfl
theorem r261_158 : Sd gd_mt M261 158 (i_ild 2 159) := sd_iload_n dX8_run_158 rfl rfl
theorem r261_159 : Sd gd_mt M261 159 (i_aldJ 160) := sd_lald dX8_run_159 rfl
theorem r261_160 : Sd gd_mt M261 160 (i_lmul 161) := sd_lmul dX8_run_160 rfl
theorem r261_161 : Sd gd_mt M261 161 (i_ald 0 162) := sd_aload_n dX8_run_161 rfl rfl
theorem r261_162 : Sd gd_mt M261 162 (i_getR 8 52 165) := sd_getR ck8 (by decide) rfl (.inl q1506) dX8_run_162 rfl
theorem r261_165 : Sd gd_mt M261 165 (i_ild 2 166) := sd_iload_n dX8_run_165 rfl rfl
theorem r261_166 : Sd gd_mt M261 166 (i_psh (.int 1) 167) := sd_iconst dX8_run_166 (by decide) rfl
theorem r261_167 : Sd gd_mt M261 167 (i_isub 168) := sd_isub dX8_run_167 rfl
theorem r261_168 : Sd gd_mt M261 168 (i_aldJ 169) := sd_lald dX8_run_168 rfl
theorem r261_169 : Sd gd_mt M261 169 (i_ild 3 170) := sd_iload_n dX8_run_169 rfl rfl
theorem r261_170 : Sd gd_mt M261 170 (i_i2l 171) := sd_i2l dX8_run_170 rfl
def cl261_1 : List (Nat × gd_I) := [(91, i_goto 64), (94, i_psh (.long 1) 95), (95, i_lst 5 97), (97, i_psh (.int 0) 98), (98, i_ist 7 100), (100, i_msk [true, true, true, true, true, true, false, true, false, false, false] (i_ild 7 102)), (102, i_ild 1 103), (103, i_icge 231 106), (106, i_ild 2 107), (107, i_ifle 231 110), (110, i_psh (.long 0) 111), (111, i_lst 8 113), (113, i_psh (.int 0) 114), (114, i_ist 10 116), (116, i_msk [true, true, true, true, true, true, false, true, true, false, true] (i_ild 10 118)), (118, i_ild 2 119), (119, i_icge 146 122), (122, i_lld 8 124), (124, i_ald 0 125), (125, i_getR 8 52 128), (128, i_ild 10 130), (130, i_aldJ 131), (131, i_psh (.int 16) 133), (133, i_ild 3 134), (134, i_isub 135), (135, i_i2l 136), (136, i_lmul 137), (137, i_ladd 138), (138, i_lst 8 140), (140, i_inc 10 1 143), (143, i_goto 116), (146, i_ald 0 147), (147, i_getR 8 52 150), (150, i_ild 2 151), (151, i_psh (.long 16) 154), (154, i_ald 0 155), (155, i_getR 8 52 158), (158, i_ild 2 159), (159, i_aldJ 160), (160, i_lmul 161), (161, i_ald 0 162), (162, i_getR 8 52 165), (165, i_ild 2 166), (166, i_psh (.int 1) 167), (167, i_isub 168), (168, i_aldJ 169), (169, i_ild 3 170), (170, i_i2l 171)]
theorem cs261_1 : ∀ q ∈ cl261_1, Sd gd_mt M261 q.1 q.2 := gd_ac r261_91 (gd_ac r261_94 (gd_ac r261_95 (gd_ac r261_97 (gd_ac r261_98 (gd_ac r261_100 (gd_ac r261_102 (gd_ac r261_103 (gd_ac r261_106 (gd_ac r261_107 (gd_ac r261_110 (gd_ac r261_111 (gd_ac r261_113 (gd_ac r261_114 (gd_ac r261_116 (gd_ac r261_118 (gd_ac r261_119 (gd_ac r261_122 (gd_ac r261_124 (gd_ac r261_125 (gd_ac r261_128 (gd_ac r261_130 (gd_ac r261_131 (gd_ac r261_133 (gd_ac r261_134 (gd_ac r261_135 (gd_ac r261_136 (gd_ac r261_137 (gd_ac r261_138 (gd_ac r261_140 (gd_ac r261_143 (gd_ac r261_146 (gd_ac r261_147 (gd_ac r261_150 (gd_ac r261_151 (gd_ac r261_154 (gd_ac r261_155 (gd_ac r261_158 (gd_ac r261_159 (gd_ac r261_160 (gd_ac r261_161 (gd_ac r261_162 (gd_ac r261_165 (gd_ac r261_166 (gd_ac r261_167 (gd_ac r261_168 (gd_ac r261_169 (gd_ac r261_170 (gd_an))))))))))))))))))))))))))))))))))))))))))))))))
theorem r261_171 : Sd gd_mt M261 171 (i_lmul 172) := sd_lmul dX8_run_171 rfl
theorem r261_172 : Sd gd_mt M261 172 (i_ladd 173) := sd_ladd dX8_run_172 rfl
theorem r261_173 : Sd gd_mt M261 173 (i_astJ 174) := sd_astJ dX8_run_173 rfl
theorem r261_174 : Sd gd_mt M261 174 (i_ild 2 175) := sd_iload_n dX8_run_174 rfl rfl
theorem r261_175 : Sd gd_mt M261 175 (i_psh (.int 1) 176) := sd_iconst dX8_run_175 (by decide) rfl
theorem r261_176 : Sd gd_mt M261 176 (i_isub 177) := sd_isub dX8_run_176 rfl
theorem r261_177 : Sd gd_mt M261 177 (i_ist 10 179) := sd_istore dX8_run_177 (by decide) rfl
theorem r261_179 : Sd gd_mt M261 179 (i_msk [true, true, true, true, true, true, false, true, true, false, true] (i_ild 10 181)) := sd_msk _ (sd_iload dX8_run_179 rfl)
theorem r261_181 : Sd gd_mt M261 181 (i_ifle 209 184) := sd_ifle dX8_run_181 (by decide) rfl
theorem r261_184 : Sd gd_mt M261 184 (i_ald 0 185) := sd_aload_n dX8_run_184 rfl rfl
theorem r261_185 : Sd gd_mt M261 185 (i_getR 8 52 188) := sd_getR ck8 (by decide) rfl (.inl q1506) dX8_run_185 rfl
theorem r261_188 : Sd gd_mt M261 188 (i_ild 10 190) := sd_iload dX8_run_188 rfl
theorem r261_190 : Sd gd_mt M261 190 (i_ald 0 191) := sd_aload_n dX8_run_190 rfl rfl
theorem r261_191 : Sd gd_mt M261 191 (i_getR 8 52 194) := sd_getR ck8 (by decide) rfl (.inl q1506) dX8_run_191 rfl
theorem r261_194 : Sd gd_mt M261 194 (i_ild 10 196) := sd_iload dX8_run_194 rfl
theorem r261_196 : Sd gd_mt M261 196 (i_psh (.int 1) 197) := sd_iconst dX8_run_196 (by decide) rfl
theorem r261_197 : Sd gd_mt M261 197 (i_isub 198) := sd_isub dX8_run_197 rfl
theorem r261_198 : Sd gd_mt M261 198 (i_aldJ 199) := sd_lald dX8_run_198 rfl
theorem r261_199 : Sd gd_mt M261 199 (i_ild 3 200) := sd_iload_n dX8_run_199 rfl rfl
theorem r261_200 : Sd gd_mt M261 200 (i_i2l 201) := sd_i2l dX8_run_200 rfl
theorem r261_201 : Sd gd_mt M261 201 (i_lmul 202) := sd_lmul dX8_run_201 rfl
theorem r261_202 : Sd gd_mt M261 202 (i_astJ 203) := sd_astJ dX8_run_202 rfl
theorem r261_203 : Sd gd_mt M261 203 (i_inc 10 (-1) 206) := sd_iinc dX8_run_203 (by decide) (by decide) rfl
theorem r261_206 : Sd gd_mt M261 206 (i_goto 179) := sd_goto dX8_run_206 (by decide)
theorem r261_209 : Sd gd_mt M261 209 (i_ald 0 210) := sd_aload_n dX8_run_209 rfl rfl
theorem r261_210 : Sd gd_mt M261 210 (i_getR 8 52 213) := sd_getR ck8 (by decide) rfl (.inl q1506) dX8_run_210 rfl
theorem r261_213 : Sd gd_mt M261 213 (i_psh (.int 0) 214) := sd_iconst dX8_run_213 (by decide) rfl
theorem r261_214 : Sd gd_mt M261 214 (i_lld 8 216) := sd_lload dX8_run_214 rfl
theorem r261_216 : Sd gd_mt M261 216 (i_astJ 217) := sd_astJ dX8_run_216 rfl
theorem r261_217 : Sd gd_mt M261 217 (i_lld 5 219) := sd_lload dX8_run_217 rfl
theorem r261_219 : Sd gd_mt M261 219 (i_psh (.long 16) 222) := sd_ldc2 dX8_run_219 q1966 rfl
theorem r261_222 : Sd gd_mt M261 222 (i_lmul 223) := sd_lmul dX8_run_222 rfl
theorem r261_223 : Sd gd_mt M261 223 (i_lst 5 225) := sd_lstore dX8_run_223 (by decide) rfl
theorem r261_225 : Sd gd_mt M261 225 (i_inc 7 1 228) := sd_iinc dX8_run_225 (by decide) (by decide) rfl
theorem r261_228 : Sd gd_mt M261 228 (i_goto 100) := sd_goto dX8_run_228 (by decide)
theorem r261_231 : Sd gd_mt M261 231 (i_msk [true, false, true, false, true, true, false, false, false, false, false] (i_ald 0 232)) := sd_msk _ (sd_aload_n dX8_run_231 rfl rfl)
theorem r261_232 : Sd gd_mt M261 232 (i_getR 8 52 235) := sd_getR ck8 (by decide) rfl (.inl q1506) dX8_run_232 rfl
theorem r261_235 : Sd gd_mt M261 235 (i_ild 2 236) := sd_iload_n dX8_run_235 rfl rfl
theorem r261_236 : Sd gd_mt M261 236 (i_aldJ 237) := sd_lald dX8_run_236 rfl
theorem r261_237 : Sd gd_mt M261 237 (i_lld 5 239) := sd_lload dX8_run_237 rfl
theorem r261_239 : Sd gd_mt M261 239 (i_ild 4 241) := sd_iload dX8_run_239 rfl
theorem r261_241 : Sd gd_mt M261 241 (i_cS 262 3 244) := sd_cS2 e262 cal262 q1967 q1968 dX8_run_241 rfl
theorem r261_244 : Sd gd_mt M261 244 (i_msk [false, false, false, false, false, false, false, false, false, false, false] (i_lret)) := sd_msk _ (sd_lret rfl dX8_run_244)
def cl261_2 : List (Nat × gd_I) := [(171, i_lmul 172), (172, i_ladd 173), (173, i_astJ 174), (174, i_ild 2 175), (175, i_psh (.int 1) 176), (176, i_isub 177), (177, i_ist 10 179), (179, i_msk [true, true, true, true, true, true, false, true, true, false, true] (i_ild 10 181)), (181, i_ifle 209 184), (184, i_ald 0 185), (185, i_getR 8 52 188), (188, i_ild 10 190), (190, i_ald 0 191), (191, i_getR 8 52 194), (194, i_ild 10 196), (196, i_psh (.int 1) 197), (197, i_isub 198), (198, i_aldJ 199), (199, i_ild 3 200), (200, i_i2l 201), (201, i_lmul 202), (202, i_astJ 203), (203, i_inc 10 (-1) 206), (206, i_goto 179), (209, i_ald 0 210), (210, i_getR 8 52 213), (213, i_psh (.int 0) 214), (214, i_lld 8 216), (216, i_astJ 217), (217, i_lld 5 219), (219, i_psh (.long 16) 222), (222, i_lmul 223), (223, i_lst 5 225), (225, i_inc 7 1 228), (228, i_goto 100), (231, i_msk [true, false, true, false, true, true, false, false, false, false, false] (i_ald 0 232)), (232, i_getR 8 52 235), (235, i_ild 2 236), (236, i_aldJ 237), (237, i_lld 5 239), (239, i_ild 4 241), (241, i_cS 262 3 244), (244, i_msk [false, false, false, false, false, false, false, false, false, false, false] (i_lret))]
theorem cs261_2 : ∀ q ∈ cl261_2, Sd gd_mt M261 q.1 q.2 := gd_ac r261_171 (gd_ac r261_172 (gd_ac r261_173 (gd_ac r261_174 (gd_ac r261_175 (gd_ac r261_176 (gd_ac r261_177 (gd_ac r261_179 (gd_ac r261_181 (gd_ac r261_184 (gd_ac r261_185 (gd_ac r261_188 (gd_ac r261_190 (gd_ac r261_191 (gd_ac r261_194 (gd_ac r261_196 (gd_ac r261_197 (gd_ac r261_198 (gd_ac r261_199 (gd_ac r261_200 (gd_ac r261_201 (gd_ac r261_202 (gd_ac r261_203 (gd_ac r261_206 (gd_ac r261_209 (gd_ac r261_210 (gd_ac r261_213 (gd_ac r261_214 (gd_ac r261_216 (gd_ac r261_217 (gd_ac r261_219 (gd_ac r261_222 (gd_ac r261_223 (gd_ac r261_225 (gd_ac r261_228 (gd_ac r261_231 (gd_ac r261_232 (gd_ac r261_235 (gd_ac r261_236 (gd_ac r261_237 (gd_ac r261_239 (gd_ac r261_241 (gd_ac r261_244 (gd_an)))))))))))))))))))))))))))))))))))))))))))
def cd261 (pc : Nat) : gd_I := if pc < 91 then lkI cl261_0 pc else if pc < 171 then lkI cl261_1 pc else lkI cl261_2 pc
theorem cg261 : ∀ pc, Sd gd_mt M261 pc (cd261 pc) := by
  intro pc
  unfold cd261
  by_cases h0 : pc < 91
  · rw [if_pos h0]; exact sd_lk cs261_0 pc
  rw [if_neg h0]
  by_cases h1 : pc < 171
  · rw [if_pos h1]; exact sd_lk cs261_1 pc
  rw [if_neg h1]
  exact sd_lk cs261_2 pc
theorem r262_0 : Sd gd_mt M262 0 (i_lld 0 1) := sd_lload_n dX8_least_0 rfl rfl
theorem r262_1 : Sd gd_mt M262 1 (i_lst 5 3) := sd_lstore dX8_least_1 (by decide) rfl
theorem r262_3 : Sd gd_mt M262 3 (i_lld 2 4) := sd_lload_n dX8_least_3 rfl rfl
theorem r262_4 : Sd gd_mt M262 4 (i_lst 7 6) := sd_lstore dX8_least_4 (by decide) rfl
theorem r262_6 : Sd gd_mt M262 6 (i_msk [true, false, true, false, true, true, false, true, false, false, false] (i_lld 7 8)) := sd_msk _ (sd_lload dX8_least_6 rfl)
theorem r262_8 : Sd gd_mt M262 8 (i_psh (.long 0) 9) := sd_lconst dX8_least_8 (by decide) rfl
theorem r262_9 : Sd gd_mt M262 9 (i_lcmp 10) := sd_lcmp dX8_least_9 rfl
theorem r262_10 : Sd gd_mt M262 10 (i_ifeq 31 13) := sd_ifeq dX8_least_10 (by decide) rfl
theorem r262_13 : Sd gd_mt M262 13 (i_lld 5 15) := sd_lload dX8_least_13 rfl
theorem r262_15 : Sd gd_mt M262 15 (i_lld 7 17) := sd_lload dX8_least_15 rfl
theorem r262_17 : Sd gd_mt M262 17 (i_lrem 18) := sd_lrem dX8_least_17 rfl
theorem r262_18 : Sd gd_mt M262 18 (i_lst 9 20) := sd_lstore dX8_least_18 (by decide) rfl
theorem r262_20 : Sd gd_mt M262 20 (i_lld 7 22) := sd_lload dX8_least_20 rfl
theorem r262_22 : Sd gd_mt M262 22 (i_lst 5 24) := sd_lstore dX8_least_22 (by decide) rfl
theorem r262_24 : Sd gd_mt M262 24 (i_lld 9 26) := sd_lload dX8_least_24 rfl
theorem r262_26 : Sd gd_mt M262 26 (i_lst 7 28) := sd_lstore dX8_least_26 (by decide) rfl
theorem r262_28 : Sd gd_mt M262 28 (i_goto 6) := sd_goto dX8_least_28 (by decide)
theorem r262_31 : Sd gd_mt M262 31 (i_ild 4 33) := sd_iload dX8_least_31 rfl
theorem r262_33 : Sd gd_mt M262 33 (i_ifne 40 36) := sd_ifne dX8_least_33 (by decide) rfl
theorem r262_36 : Sd gd_mt M262 36 (i_lld 0 37) := sd_lload_n dX8_least_36 rfl rfl
theorem r262_37 : Sd gd_mt M262 37 (i_goto 41) := sd_goto dX8_least_37 (by decide)
theorem r262_40 : Sd gd_mt M262 40 (i_lld 2 41) := sd_lload_n dX8_least_40 rfl rfl
theorem r262_41 : Sd gd_mt M262 41 (i_msk [false, false, false, false, false, true, false, false, false, false, false] (i_lld 5 43)) := sd_msk _ (sd_lload dX8_least_41 rfl)
theorem r262_43 : Sd gd_mt M262 43 (i_ldiv 44) := sd_ldiv dX8_least_43 rfl
theorem r262_44 : Sd gd_mt M262 44 (i_lret) := sd_lret rfl dX8_least_44
def cl262_0 : List (Nat × gd_I) := [(0, i_lld 0 1), (1, i_lst 5 3), (3, i_lld 2 4), (4, i_lst 7 6), (6, i_msk [true, false, true, false, true, true, false, true, false, false, false] (i_lld 7 8)), (8, i_psh (.long 0) 9), (9, i_lcmp 10), (10, i_ifeq 31 13), (13, i_lld 5 15), (15, i_lld 7 17), (17, i_lrem 18), (18, i_lst 9 20), (20, i_lld 7 22), (22, i_lst 5 24), (24, i_lld 9 26), (26, i_lst 7 28), (28, i_goto 6), (31, i_ild 4 33), (33, i_ifne 40 36), (36, i_lld 0 37), (37, i_goto 41), (40, i_lld 2 41), (41, i_msk [false, false, false, false, false, true, false, false, false, false, false] (i_lld 5 43)), (43, i_ldiv 44), (44, i_lret)]
theorem cs262_0 : ∀ q ∈ cl262_0, Sd gd_mt M262 q.1 q.2 := gd_ac r262_0 (gd_ac r262_1 (gd_ac r262_3 (gd_ac r262_4 (gd_ac r262_6 (gd_ac r262_8 (gd_ac r262_9 (gd_ac r262_10 (gd_ac r262_13 (gd_ac r262_15 (gd_ac r262_17 (gd_ac r262_18 (gd_ac r262_20 (gd_ac r262_22 (gd_ac r262_24 (gd_ac r262_26 (gd_ac r262_28 (gd_ac r262_31 (gd_ac r262_33 (gd_ac r262_36 (gd_ac r262_37 (gd_ac r262_40 (gd_ac r262_41 (gd_ac r262_43 (gd_ac r262_44 (gd_an)))))))))))))))))))))))))
def cd262 (pc : Nat) : gd_I := lkI cl262_0 pc
theorem cg262 : ∀ pc, Sd gd_mt M262 pc (cd262 pc) := sd_lk cs262_0
theorem r263_0 : Sd gd_mt M263 0 (i_ald 0 1) := sd_aload_n dX8_planes_0 rfl rfl
theorem r263_1 : Sd gd_mt M263 1 (i_psh (.int 0) 2) := sd_iconst dX8_planes_1 (by decide) rfl
theorem r263_2 : Sd gd_mt M263 2 (i_putI 8 0 5) := sd_putI ck8 (by decide) rfl (.inl q1454) (.inl rfl) dX8_planes_2 rfl
theorem r263_5 : Sd gd_mt M263 5 (i_ald 0 6) := sd_aload_n dX8_planes_5 rfl rfl
theorem r263_6 : Sd gd_mt M263 6 (i_ild 1 7) := sd_iload_n dX8_planes_6 rfl rfl
theorem r263_7 : Sd gd_mt M263 7 (i_psh (.int 0) 8) := sd_iconst dX8_planes_7 (by decide) rfl
theorem r263_8 : Sd gd_mt M263 8 (i_psh (.int 99) 10) := sd_bipush dX8_planes_8 (by decide) rfl
theorem r263_10 : Sd gd_mt M263 10 (i_cS 233 3 13) := sd_cS2 e233 cal233 q1853 q1854 dX8_planes_10 rfl
theorem r263_13 : Sd gd_mt M263 13 (i_msk [false, true, true, true, false, false, false, false, false] (i_ifeq 39 16)) := sd_msk _ (sd_ifeq dX8_planes_13 (by decide) rfl)
theorem r263_16 : Sd gd_mt M263 16 (i_ild 2 17) := sd_iload_n dX8_planes_16 rfl rfl
theorem r263_17 : Sd gd_mt M263 17 (i_psh (.int 0) 18) := sd_iconst dX8_planes_17 (by decide) rfl
theorem r263_18 : Sd gd_mt M263 18 (i_psh (.int 99) 20) := sd_bipush dX8_planes_18 (by decide) rfl
theorem r263_20 : Sd gd_mt M263 20 (i_cS 233 3 23) := sd_cS2 e233 cal233 q1853 q1854 dX8_planes_20 rfl
theorem r263_23 : Sd gd_mt M263 23 (i_msk [false, true, true, true, false, false, false, false, false] (i_ifeq 39 26)) := sd_msk _ (sd_ifeq dX8_planes_23 (by decide) rfl)
theorem r263_26 : Sd gd_mt M263 26 (i_ild 3 27) := sd_iload_n dX8_planes_26 rfl rfl
theorem r263_27 : Sd gd_mt M263 27 (i_psh (.int 0) 28) := sd_iconst dX8_planes_27 (by decide) rfl
theorem r263_28 : Sd gd_mt M263 28 (i_psh (.int 2) 29) := sd_iconst dX8_planes_28 (by decide) rfl
theorem r263_29 : Sd gd_mt M263 29 (i_cS 233 3 32) := sd_cS2 e233 cal233 q1853 q1854 dX8_planes_29 rfl
theorem r263_32 : Sd gd_mt M263 32 (i_msk [false, true, true, true, false, false, false, false, false] (i_ifeq 39 35)) := sd_msk _ (sd_ifeq dX8_planes_32 (by decide) rfl)
theorem r263_35 : Sd gd_mt M263 35 (i_psh (.int 1) 36) := sd_iconst dX8_planes_35 (by decide) rfl
theorem r263_36 : Sd gd_mt M263 36 (i_goto 40) := sd_goto dX8_planes_36 (by decide)
theorem r263_39 : Sd gd_mt M263 39 (i_msk [false, true, true, true, false, false, false, false, false] (i_psh (.int 0) 40)) := sd_msk _ (sd_iconst dX8_planes_39 (by decide) rfl)
theorem r263_40 : Sd gd_mt M263 40 (i_msk [false, true, true, true, false, false, false, false, false] (i_psh (.int 1) 41)) := sd_msk _ (sd_iconst dX8_planes_40 (by decide) rfl)
theorem r263_41 : Sd gd_mt M263 41 (i_psh (.int 1) 42) := sd_iconst dX8_planes_41 (by decide) rfl
theorem r263_42 : Sd gd_mt M263 42 (i_cV 183 3 8 45) := sd_cV2 e183 cal183 q1639 q1641 (rfl : gd_cl 8 = some _) qs30 dX8_planes_42 rfl
theorem r263_45 : Sd gd_mt M263 45 (i_msk [false, true, true, true, false, false, false, false, false] (i_ifne 50 48)) := sd_msk _ (sd_ifne dX8_planes_45 (by decide) rfl)
theorem r263_48 : Sd gd_mt M263 48 (i_psh (.int 0) 49) := sd_iconst dX8_planes_48 (by decide) rfl
theorem r263_49 : Sd gd_mt M263 49 (i_iret) := sd_iret rfl dX8_planes_49
theorem r263_50 : Sd gd_mt M263 50 (i_psh (.int 0) 51) := sd_iconst dX8_planes_50 (by decide) rfl
theorem r263_51 : Sd gd_mt M263 51 (i_ist 4 53) := sd_istore dX8_planes_51 (by decide) rfl
theorem r263_53 : Sd gd_mt M263 53 (i_psh (.int (-1)) 54) := sd_iconst dX8_planes_53 (by decide) rfl
theorem r263_54 : Sd gd_mt M263 54 (i_ist 5 56) := sd_istore dX8_planes_54 (by decide) rfl
theorem r263_56 : Sd gd_mt M263 56 (i_psh (.int 0) 57) := sd_iconst dX8_planes_56 (by decide) rfl
theorem r263_57 : Sd gd_mt M263 57 (i_ist 6 59) := sd_istore dX8_planes_57 (by decide) rfl
theorem r263_59 : Sd gd_mt M263 59 (i_msk [false, true, true, true, true, true, true, false, false] (i_ild 6 61)) := sd_msk _ (sd_iload dX8_planes_59 rfl)
theorem r263_61 : Sd gd_mt M263 61 (i_psh (.int 4) 62) := sd_iconst dX8_planes_61 (by decide) rfl
theorem r263_62 : Sd gd_mt M263 62 (i_icge 156 65) := sd_icge dX8_planes_62 (by decide) rfl
theorem r263_65 : Sd gd_mt M263 65 (i_ild 6 67) := sd_iload dX8_planes_65 rfl
theorem r263_67 : Sd gd_mt M263 67 (i_psh (.int 2) 68) := sd_iconst dX8_planes_67 (by decide) rfl
theorem r263_68 : Sd gd_mt M263 68 (i_idiv 69) := sd_idiv dX8_planes_68 rfl
theorem r263_69 : Sd gd_mt M263 69 (i_ist 7 71) := sd_istore dX8_planes_69 (by decide) rfl
theorem r263_71 : Sd gd_mt M263 71 (i_ild 6 73) := sd_iload dX8_planes_71 rfl
theorem r263_73 : Sd gd_mt M263 73 (i_psh (.int 2) 74) := sd_iconst dX8_planes_73 (by decide) rfl
theorem r263_74 : Sd gd_mt M263 74 (i_irem 75) := sd_irem dX8_planes_74 rfl
theorem r263_75 : Sd gd_mt M263 75 (i_ist 8 77) := sd_istore dX8_planes_75 (by decide) rfl
theorem r263_77 : Sd gd_mt M263 77 (i_psh (.int 1) 78) := sd_iconst dX8_planes_77 (by decide) rfl
theorem r263_78 : Sd gd_mt M263 78 (i_ild 7 80) := sd_iload dX8_planes_78 rfl
theorem r263_80 : Sd gd_mt M263 80 (i_isub 81) := sd_isub dX8_planes_80 rfl
def cl263_0 : List (Nat × gd_I) := [(0, i_ald 0 1), (1, i_psh (.int 0) 2), (2, i_putI 8 0 5), (5, i_ald 0 6), (6, i_ild 1 7), (7, i_psh (.int 0) 8), (8, i_psh (.int 99) 10), (10, i_cS 233 3 13), (13, i_msk [false, true, true, true, false, false, false, false, false] (i_ifeq 39 16)), (16, i_ild 2 17), (17, i_psh (.int 0) 18), (18, i_psh (.int 99) 20), (20, i_cS 233 3 23), (23, i_msk [false, true, true, true, false, false, false, false, false] (i_ifeq 39 26)), (26, i_ild 3 27), (27, i_psh (.int 0) 28), (28, i_psh (.int 2) 29), (29, i_cS 233 3 32), (32, i_msk [false, true, true, true, false, false, false, false, false] (i_ifeq 39 35)), (35, i_psh (.int 1) 36), (36, i_goto 40), (39, i_msk [false, true, true, true, false, false, false, false, false] (i_psh (.int 0) 40)), (40, i_msk [false, true, true, true, false, false, false, false, false] (i_psh (.int 1) 41)), (41, i_psh (.int 1) 42), (42, i_cV 183 3 8 45), (45, i_msk [false, true, true, true, false, false, false, false, false] (i_ifne 50 48)), (48, i_psh (.int 0) 49), (49, i_iret), (50, i_psh (.int 0) 51), (51, i_ist 4 53), (53, i_psh (.int (-1)) 54), (54, i_ist 5 56), (56, i_psh (.int 0) 57), (57, i_ist 6 59), (59, i_msk [false, true, true, true, true, true, true, false, false] (i_ild 6 61)), (61, i_psh (.int 4) 62), (62, i_icge 156 65), (65, i_ild 6 67), (67, i_psh (.int 2) 68), (68, i_idiv 69), (69, i_ist 7 71), (71, i_ild 6 73), (73, i_psh (.int 2) 74), (74, i_irem 75), (75, i_ist 8 77), (77, i_psh (.int 1) 78), (78, i_ild 7 80), (80, i_isub 81)]
theorem cs263_0 : ∀ q ∈ cl263_0, Sd gd_mt M263 q.1 q.2 := gd_ac r263_0 (gd_ac r263_1 (gd_ac r263_2 (gd_ac r263_5 (gd_ac r263_6 (gd_ac r263_7 (gd_ac r263_8 (gd_ac r263_10 (gd_ac r263_13 (gd_ac r263_16 (gd_ac r263_17 (gd_ac r263_18 (gd_ac r263_20 (gd_ac r263_23 (gd_ac r263_26 (gd_ac r263_27 (gd_ac r263_28 (gd_ac r263_29 (gd_ac r263_32 (gd_ac r263_35 (gd_ac r263_36 (gd_ac r263_39 (gd_ac r263_40 (gd_ac r263_41 (gd_ac r263_42 (gd_ac r263_45 (gd_ac r263_48 (gd_ac r263_49 (gd_ac r263_50 (gd_ac r263_51 (gd_ac r263_53 (gd_ac r263_54 (gd_ac r263_56 (gd_ac r263_57 (gd_ac r263_59 (gd_ac r263_61 (gd_ac r263_62 (gd_ac r263_65 (gd_ac r263_67 (gd_ac r263_68 (gd_ac r263_69 (gd_ac r263_71 (gd_ac r263_73 (gd_ac r263_74 (gd_ac r263_75 (gd_ac r263_77 (gd_ac r263_78 (gd_ac r263_80 (gd_an))))))))))))))))))))))))))))))))))))))))))))))))
theorem r263_81 : Sd gd_mt M263 81 (i_ild 8 83) := sd_iload dX8_planes_81 rfl
theorem r263_83 : Sd gd_mt M263 83 (i_ild 1 84) := sd_iload_n dX8_planes_83 rfl rfl
theorem r263_84 : Sd gd_mt M263 84 (i_ild 2 85) := sd_iload_n dX8_planes_84 rfl rfl
theorem r263_85 : Sd gd_mt M263 85 (i_cS 264 4 88) := sd_cS2 e264 cal264 q1974 q1975 dX8_planes_85 rfl
theorem r263_88 : Sd gd_mt M263 88 (i_msk [false, true, true, true, true, true, true, true, true] (i_ild 7 90)) := sd_msk _ (sd_iload dX8_planes_88 rfl)
theorem r263_90 : Sd gd_mt M263 90 (i_ild 8 92) := sd_iload dX8_planes_90 rfl
theorem r263_92 : Sd gd_mt M263 92 (i_ild 1 93) := sd_iload_n dX8_planes_92 rfl rfl
theorem r263_93 : Sd gd_mt M263 93 (i_ild 2 94) := sd_iload_n dX8_planes_93 rfl rfl
theorem r263_94 : Sd gd_mt M263 94 (i_cS 264 4 97) := sd_cS2 e264 cal264 q1974 q1975 dX8_planes_94 rfl
theorem r263_97 : Sd gd_mt M263 97 (i_msk [false, true, true, true, true, true, true, true, true] (i_icgt 150 100)) := sd_msk _ (sd_icgt dX8_planes_97 (by decide) rfl)
theorem r263_100 : Sd gd_mt M263 100 (i_psh (.int 1) 101) := sd_iconst dX8_planes_100 (by decide) rfl
theorem r263_101 : Sd gd_mt M263 101 (i_ild 8 103) := sd_iload dX8_planes_101 rfl
theorem r263_103 : Sd gd_mt M263 103 (i_isub 104) := sd_isub dX8_planes_103 rfl
theorem r263_104 : Sd gd_mt M263 104 (i_ild 7 106) := sd_iload dX8_planes_104 rfl
theorem r263_106 : Sd gd_mt M263 106 (i_ild 1 107) := sd_iload_n dX8_planes_106 rfl rfl
theorem r263_107 : Sd gd_mt M263 107 (i_ild 2 108) := sd_iload_n dX8_planes_107 rfl rfl
theorem r263_108 : Sd gd_mt M263 108 (i_cS 264 4 111) := sd_cS2 e264 cal264 q1974 q1975 dX8_planes_108 rfl
theorem r263_111 : Sd gd_mt M263 111 (i_msk [false, true, true, true, true, true, true, true, true] (i_ild 8 113)) := sd_msk _ (sd_iload dX8_planes_111 rfl)
theorem r263_113 : Sd gd_mt M263 113 (i_ild 7 115) := sd_iload dX8_planes_113 rfl
theorem r263_115 : Sd gd_mt M263 115 (i_ild 1 116) := sd_iload_n dX8_planes_115 rfl rfl
theorem r263_116 : Sd gd_mt M263 116 (i_ild 2 117) := sd_iload_n dX8_planes_116 rfl rfl
theorem r263_117 : Sd gd_mt M263 117 (i_cS 264 4 120) := sd_cS2 e264 cal264 q1974 q1975 dX8_planes_117 rfl
theorem r263_120 : Sd gd_mt M263 120 (i_msk [false, true, true, true, true, true, true, true, true] (i_icle 126 123)) := sd_msk _ (sd_icle dX8_planes_120 (by decide) rfl)
theorem r263_123 : Sd gd_mt M263 123 (i_goto 150) := sd_goto dX8_planes_123 (by decide)
theorem r263_126 : Sd gd_mt M263 126 (i_inc 4 1 129) := sd_iinc dX8_planes_126 (by decide) (by decide) rfl
theorem r263_129 : Sd gd_mt M263 129 (i_ild 5 131) := sd_iload dX8_planes_129 rfl
theorem r263_131 : Sd gd_mt M263 131 (i_psh (.int (-1)) 132) := sd_iconst dX8_planes_131 (by decide) rfl
theorem r263_132 : Sd gd_mt M263 132 (i_icne 146 135) := sd_icne dX8_planes_132 (by decide) rfl
theorem r263_135 : Sd gd_mt M263 135 (i_psh (.int 10) 137) := sd_bipush dX8_planes_135 (by decide) rfl
theorem r263_137 : Sd gd_mt M263 137 (i_ild 7 139) := sd_iload dX8_planes_137 rfl
theorem r263_139 : Sd gd_mt M263 139 (i_imul 140) := sd_imul dX8_planes_139 rfl
theorem r263_140 : Sd gd_mt M263 140 (i_ild 8 142) := sd_iload dX8_planes_140 rfl
theorem r263_142 : Sd gd_mt M263 142 (i_iadd 143) := sd_iadd dX8_planes_142 rfl
theorem r263_143 : Sd gd_mt M263 143 (i_goto 148) := sd_goto dX8_planes_143 (by decide)
theorem r263_146 : Sd gd_mt M263 146 (i_ild 5 148) := sd_iload dX8_planes_146 rfl
theorem r263_148 : Sd gd_mt M263 148 (i_msk [false, true, true, true, true, false, true, false, false] (i_ist 5 150)) := sd_msk _ (sd_istore dX8_planes_148 (by decide) rfl)
theorem r263_150 : Sd gd_mt M263 150 (i_msk [false, true, true, true, true, true, true, false, false] (i_inc 6 1 153)) := sd_msk _ (sd_iinc dX8_planes_150 (by decide) (by decide) rfl)
theorem r263_153 : Sd gd_mt M263 153 (i_goto 59) := sd_goto dX8_planes_153 (by decide)
theorem r263_156 : Sd gd_mt M263 156 (i_ild 3 157) := sd_iload_n dX8_planes_156 rfl rfl
theorem r263_157 : Sd gd_mt M263 157 (i_ifne 165 160) := sd_ifne dX8_planes_157 (by decide) rfl
theorem r263_160 : Sd gd_mt M263 160 (i_ild 4 162) := sd_iload dX8_planes_160 rfl
theorem r263_162 : Sd gd_mt M263 162 (i_goto 216) := sd_goto dX8_planes_162 (by decide)
theorem r263_165 : Sd gd_mt M263 165 (i_ild 3 166) := sd_iload_n dX8_planes_165 rfl rfl
theorem r263_166 : Sd gd_mt M263 166 (i_psh (.int 1) 167) := sd_iconst dX8_planes_166 (by decide) rfl
theorem r263_167 : Sd gd_mt M263 167 (i_icne 175 170) := sd_icne dX8_planes_167 (by decide) rfl
theorem r263_170 : Sd gd_mt M263 170 (i_ild 5 172) := sd_iload dX8_planes_170 rfl
theorem r263_172 : Sd gd_mt M263 172 (i_goto 216) := sd_goto dX8_planes_172 (by decide)
theorem r263_175 : Sd gd_mt M263 175 (i_ild 5 177) := sd_iload dX8_planes_175 rfl
def cl263_1 : List (Nat × gd_I) := [(81, i_ild 8 83), (83, i_ild 1 84), (84, i_ild 2 85), (85, i_cS 264 4 88), (88, i_msk [false, true, true, true, true, true, true, true, true] (i_ild 7 90)), (90, i_ild 8 92), (92, i_ild 1 93), (93, i_ild 2 94), (94, i_cS 264 4 97), (97, i_msk [false, true, true, true, true, true, true, true, true] (i_icgt 150 100)), (100, i_psh (.int 1) 101), (101, i_ild 8 103), (103, i_isub 104), (104, i_ild 7 106), (106, i_ild 1 107), (107, i_ild 2 108), (108, i_cS 264 4 111), (111, i_msk [false, true, true, true, true, true, true, true, true] (i_ild 8 113)), (113, i_ild 7 115), (115, i_ild 1 116), (116, i_ild 2 117), (117, i_cS 264 4 120), (120, i_msk [false, true, true, true, true, true, true, true, true] (i_icle 126 123)), (123, i_goto 150), (126, i_inc 4 1 129), (129, i_ild 5 131), (131, i_psh (.int (-1)) 132), (132, i_icne 146 135), (135, i_psh (.int 10) 137), (137, i_ild 7 139), (139, i_imul 140), (140, i_ild 8 142), (142, i_iadd 143), (143, i_goto 148), (146, i_ild 5 148), (148, i_msk [false, true, true, true, true, false, true, false, false] (i_ist 5 150)), (150, i_msk [false, true, true, true, true, true, true, false, false] (i_inc 6 1 153)), (153, i_goto 59), (156, i_ild 3 157), (157, i_ifne 165 160), (160, i_ild 4 162), (162, i_goto 216), (165, i_ild 3 166), (166, i_psh (.int 1) 167), (167, i_icne 175 170), (170, i_ild 5 172), (172, i_goto 216), (175, i_ild 5 177)]
theorem cs263_1 : ∀ q ∈ cl263_1, Sd gd_mt M263 q.1 q.2 := gd_ac r263_81 (gd_ac r263_83 (gd_ac r263_84 (gd_ac r263_85 (gd_ac r263_88 (gd_ac r263_90 (gd_ac r263_92 (gd_ac r263_93 (gd_ac r263_94 (gd_ac r263_97 (gd_ac r263_100 (gd_ac r263_101 (gd_ac r263_103 (gd_ac r263_104 (gd_ac r263_106 (gd_ac r263_107 (gd_ac r263_108 (gd_ac r263_111 (gd_ac r263_113 (gd_ac r263_115 (gd_ac r263_116 (gd_ac r263_117 (gd_ac r263_120 (gd_ac r263_123 (gd_ac r263_126 (gd_ac r263_129 (gd_ac r263_131 (gd_ac r263_132 (gd_ac r263_135 (gd_ac r263_137 (gd_ac r263_139 (gd_ac r263_140 (gd_ac r263_142 (gd_ac r263_143 (gd_ac r263_146 (gd_ac r263_148 (gd_ac r263_150 (gd_ac r263_153 (gd_ac r263_156 (gd_ac r263_157 (gd_ac r263_160 (gd_ac r263_162 (gd_ac r263_165 (gd_ac r263_166 (gd_ac r263_167 (gd_ac r263_170 (gd_ac r263_172 (gd_ac r263_175 (gd_an))))))))))))))))))))))))))))))))))))))))))))))))
theorem r263_177 : Sd gd_mt M263 177 (i_psh (.int (-1)) 178) := sd_iconst dX8_planes_177 (by decide) rfl
theorem r263_178 : Sd gd_mt M263 178 (i_icne 185 181) := sd_icne dX8_planes_178 (by decide) rfl
theorem r263_181 : Sd gd_mt M263 181 (i_psh (.int 0) 182) := sd_iconst dX8_planes_181 (by decide) rfl
theorem r263_182 : Sd gd_mt M263 182 (i_goto 216) := sd_goto dX8_planes_182 (by decide)
theorem r263_185 : Sd gd_mt M263 185 (i_ild 5 187) := sd_iload dX8_planes_185 rfl
theorem r263_187 : Sd gd_mt M263 187 (i_psh (.int 10) 189) := sd_bipush dX8_planes_187 (by decide) rfl
theorem r263_189 : Sd gd_mt M263 189 (i_idiv 190) := sd_idiv dX8_planes_189 rfl
theorem r263_190 : Sd gd_mt M263 190 (i_ild 5 192) := sd_iload dX8_planes_190 rfl
theorem r263_192 : Sd gd_mt M263 192 (i_psh (.int 10) 194) := sd_bipush dX8_planes_192 (by decide) rfl
theorem r263_194 : Sd gd_mt M263 194 (i_irem 195) := sd_irem dX8_planes_194 rfl
theorem r263_195 : Sd gd_mt M263 195 (i_ild 1 196) := sd_iload_n dX8_planes_195 rfl rfl
theorem r263_196 : Sd gd_mt M263 196 (i_ild 2 197) := sd_iload_n dX8_planes_196 rfl rfl
theorem r263_197 : Sd gd_mt M263 197 (i_cS 264 4 200) := sd_cS2 e264 cal264 q1974 q1975 dX8_planes_197 rfl
theorem r263_200 : Sd gd_mt M263 200 (i_msk [false, true, true, false, false, true, false, false, false] (i_ild 5 202)) := sd_msk _ (sd_iload dX8_planes_200 rfl)
theorem r263_202 : Sd gd_mt M263 202 (i_psh (.int 10) 204) := sd_bipush dX8_planes_202 (by decide) rfl
theorem r263_204 : Sd gd_mt M263 204 (i_irem 205) := sd_irem dX8_planes_204 rfl
theorem r263_205 : Sd gd_mt M263 205 (i_ild 5 207) := sd_iload dX8_planes_205 rfl
theorem r263_207 : Sd gd_mt M263 207 (i_psh (.int 10) 209) := sd_bipush dX8_planes_207 (by decide) rfl
theorem r263_209 : Sd gd_mt M263 209 (i_idiv 210) := sd_idiv dX8_planes_209 rfl
theorem r263_210 : Sd gd_mt M263 210 (i_ild 1 211) := sd_iload_n dX8_planes_210 rfl rfl
theorem r263_211 : Sd gd_mt M263 211 (i_ild 2 212) := sd_iload_n dX8_planes_211 rfl rfl
theorem r263_212 : Sd gd_mt M263 212 (i_cS 264 4 215) := sd_cS2 e264 cal264 q1974 q1975 dX8_planes_212 rfl
theorem r263_215 : Sd gd_mt M263 215 (i_msk [false, false, false, false, false, false, false, false, false] (i_iadd 216)) := sd_msk _ (sd_iadd dX8_planes_215 rfl)
theorem r263_216 : Sd gd_mt M263 216 (i_msk [false, false, false, false, false, false, false, false, false] (i_iret)) := sd_msk _ (sd_iret rfl dX8_planes_216)
def cl263_2 : List (Nat × gd_I) := [(177, i_psh (.int (-1)) 178), (178, i_icne 185 181), (181, i_psh (.int 0) 182), (182, i_goto 216), (185, i_ild 5 187), (187, i_psh (.int 10) 189), (189, i_idiv 190), (190, i_ild 5 192), (192, i_psh (.int 10) 194), (194, i_irem 195), (195, i_ild 1 196), (196, i_ild 2 197), (197, i_cS 264 4 200), (200, i_msk [false, true, true, false, false, true, false, false, false] (i_ild 5 202)), (202, i_psh (.int 10) 204), (204, i_irem 205), (205, i_ild 5 207), (207, i_psh (.int 10) 209), (209, i_idiv 210), (210, i_ild 1 211), (211, i_ild 2 212), (212, i_cS 264 4 215), (215, i_msk [false, false, false, false, false, false, false, false, false] (i_iadd 216)), (216, i_msk [false, false, false, false, false, false, false, false, false] (i_iret))]
theorem cs263_2 : ∀ q ∈ cl263_2, Sd gd_mt M263 q.1 q.2 := gd_ac r263_177 (gd_ac r263_178 (gd_ac r263_181 (gd_ac r263_182 (gd_ac r263_185 (gd_ac r263_187 (gd_ac r263_189 (gd_ac r263_190 (gd_ac r263_192 (gd_ac r263_194 (gd_ac r263_195 (gd_ac r263_196 (gd_ac r263_197 (gd_ac r263_200 (gd_ac r263_202 (gd_ac r263_204 (gd_ac r263_205 (gd_ac r263_207 (gd_ac r263_209 (gd_ac r263_210 (gd_ac r263_211 (gd_ac r263_212 (gd_ac r263_215 (gd_ac r263_216 (gd_an))))))))))))))))))))))))
def cd263 (pc : Nat) : gd_I := if pc < 81 then lkI cl263_0 pc else if pc < 177 then lkI cl263_1 pc else lkI cl263_2 pc
theorem cg263 : ∀ pc, Sd gd_mt M263 pc (cd263 pc) := by
  intro pc
  unfold cd263
  by_cases h0 : pc < 81
  · rw [if_pos h0]; exact sd_lk cs263_0 pc
  rw [if_neg h0]
  by_cases h1 : pc < 177
  · rw [if_pos h1]; exact sd_lk cs263_1 pc
  rw [if_neg h1]
  exact sd_lk cs263_2 pc
theorem r264_0 : Sd gd_mt M264 0 (i_ild 0 1) := sd_iload_n dX8_hasBy_0 rfl rfl
theorem r264_1 : Sd gd_mt M264 1 (i_ild 1 2) := sd_iload_n dX8_hasBy_1 rfl rfl
theorem r264_2 : Sd gd_mt M264 2 (i_icne 17 5) := sd_icne dX8_hasBy_2 (by decide) rfl
theorem r264_5 : Sd gd_mt M264 5 (i_ild 0 6) := sd_iload_n dX8_hasBy_5 rfl rfl
theorem r264_6 : Sd gd_mt M264 6 (i_ifne 13 9) := sd_ifne dX8_hasBy_6 (by decide) rfl
theorem r264_9 : Sd gd_mt M264 9 (i_psh (.int 0) 10) := sd_iconst dX8_hasBy_9 (by decide) rfl
theorem r264_10 : Sd gd_mt M264 10 (i_goto 27) := sd_goto dX8_hasBy_10 (by decide)
theorem r264_13 : Sd gd_mt M264 13 (i_ild 2 14) := sd_iload_n dX8_hasBy_13 rfl rfl
theorem r264_14 : Sd gd_mt M264 14 (i_goto 27) := sd_goto dX8_hasBy_14 (by decide)
theorem r264_17 : Sd gd_mt M264 17 (i_ild 0 18) := sd_iload_n dX8_hasBy_17 rfl rfl
theorem r264_18 : Sd gd_mt M264 18 (i_ifne 25 21) := sd_ifne dX8_hasBy_18 (by decide) rfl
theorem r264_21 : Sd gd_mt M264 21 (i_ild 3 22) := sd_iload_n dX8_hasBy_21 rfl rfl
theorem r264_22 : Sd gd_mt M264 22 (i_goto 27) := sd_goto dX8_hasBy_22 (by decide)
theorem r264_25 : Sd gd_mt M264 25 (i_ild 3 26) := sd_iload_n dX8_hasBy_25 rfl rfl
theorem r264_26 : Sd gd_mt M264 26 (i_ineg 27) := sd_ineg dX8_hasBy_26 rfl
theorem r264_27 : Sd gd_mt M264 27 (i_msk [false, false, false, false] (i_iret)) := sd_msk _ (sd_iret rfl dX8_hasBy_27)
def cl264_0 : List (Nat × gd_I) := [(0, i_ild 0 1), (1, i_ild 1 2), (2, i_icne 17 5), (5, i_ild 0 6), (6, i_ifne 13 9), (9, i_psh (.int 0) 10), (10, i_goto 27), (13, i_ild 2 14), (14, i_goto 27), (17, i_ild 0 18), (18, i_ifne 25 21), (21, i_ild 3 22), (22, i_goto 27), (25, i_ild 3 26), (26, i_ineg 27), (27, i_msk [false, false, false, false] (i_iret))]
theorem cs264_0 : ∀ q ∈ cl264_0, Sd gd_mt M264 q.1 q.2 := gd_ac r264_0 (gd_ac r264_1 (gd_ac r264_2 (gd_ac r264_5 (gd_ac r264_6 (gd_ac r264_9 (gd_ac r264_10 (gd_ac r264_13 (gd_ac r264_14 (gd_ac r264_17 (gd_ac r264_18 (gd_ac r264_21 (gd_ac r264_22 (gd_ac r264_25 (gd_ac r264_26 (gd_ac r264_27 (gd_an))))))))))))))))
def cd264 (pc : Nat) : gd_I := lkI cl264_0 pc
theorem cg264 : ∀ pc, Sd gd_mt M264 pc (cd264 pc) := sd_lk cs264_0
theorem r265_0 : Sd gd_mt M265 0 (i_ald 0 1) := sd_aload_n dX8_chairs_0 rfl rfl
theorem r265_1 : Sd gd_mt M265 1 (i_psh (.int 0) 2) := sd_iconst dX8_chairs_1 (by decide) rfl
theorem r265_2 : Sd gd_mt M265 2 (i_putI 8 0 5) := sd_putI ck8 (by decide) rfl (.inl q1454) (.inl rfl) dX8_chairs_2 rfl
theorem r265_5 : Sd gd_mt M265 5 (i_ald 0 6) := sd_aload_n dX8_chairs_5 rfl rfl
theorem r265_6 : Sd gd_mt M265 6 (i_ild 1 7) := sd_iload_n dX8_chairs_6 rfl rfl
theorem r265_7 : Sd gd_mt M265 7 (i_psh (.int 1) 8) := sd_iconst dX8_chairs_7 (by decide) rfl
theorem r265_8 : Sd gd_mt M265 8 (i_cV 239 2 8 11) := sd_cV2 e239 cal239 q1876 q1878 (rfl : gd_cl 8 = some _) qs72 dX8_chairs_8 rfl
theorem r265_11 : Sd gd_mt M265 11 (i_msk [true, true, true, true, false] (i_ifeq 53 14)) := sd_msk _ (sd_ifeq dX8_chairs_11 (by decide) rfl)
theorem r265_14 : Sd gd_mt M265 14 (i_ald 0 15) := sd_aload_n dX8_chairs_14 rfl rfl
theorem r265_15 : Sd gd_mt M265 15 (i_ild 2 16) := sd_iload_n dX8_chairs_15 rfl rfl
theorem r265_16 : Sd gd_mt M265 16 (i_iflt 44 19) := sd_iflt dX8_chairs_16 (by decide) rfl
theorem r265_19 : Sd gd_mt M265 19 (i_ild 2 20) := sd_iload_n dX8_chairs_19 rfl rfl
theorem r265_20 : Sd gd_mt M265 20 (i_psh (.int 1) 21) := sd_iconst dX8_chairs_20 (by decide) rfl
theorem r265_21 : Sd gd_mt M265 21 (i_ald 0 22) := sd_aload_n dX8_chairs_21 rfl rfl
theorem r265_22 : Sd gd_mt M265 22 (i_getI 8 21 25) := sd_getI ck8 (by decide) rfl (.inl q1475) dX8_chairs_22 rfl
theorem r265_25 : Sd gd_mt M265 25 (i_ishl 26) := sd_ishl dX8_chairs_25 rfl
theorem r265_26 : Sd gd_mt M265 26 (i_icge 44 29) := sd_icge dX8_chairs_26 (by decide) rfl
theorem r265_29 : Sd gd_mt M265 29 (i_ild 3 30) := sd_iload_n dX8_chairs_29 rfl rfl
theorem r265_30 : Sd gd_mt M265 30 (i_psh (.int 0) 31) := sd_iconst dX8_chairs_30 (by decide) rfl
theorem r265_31 : Sd gd_mt M265 31 (i_psh (.int 9999) 34) := sd_sipush dX8_chairs_31 (by decide) rfl
theorem r265_34 : Sd gd_mt M265 34 (i_cS 233 3 37) := sd_cS2 e233 cal233 q1853 q1854 dX8_chairs_34 rfl
theorem r265_37 : Sd gd_mt M265 37 (i_msk [true, true, true, true, false] (i_ifeq 44 40)) := sd_msk _ (sd_ifeq dX8_chairs_37 (by decide) rfl)
theorem r265_40 : Sd gd_mt M265 40 (i_psh (.int 1) 41) := sd_iconst dX8_chairs_40 (by decide) rfl
theorem r265_41 : Sd gd_mt M265 41 (i_goto 45) := sd_goto dX8_chairs_41 (by decide)
theorem r265_44 : Sd gd_mt M265 44 (i_msk [true, true, true, true, false] (i_psh (.int 0) 45)) := sd_msk _ (sd_iconst dX8_chairs_44 (by decide) rfl)
theorem r265_45 : Sd gd_mt M265 45 (i_msk [true, true, true, true, false] (i_psh (.int 2) 46)) := sd_msk _ (sd_iconst dX8_chairs_45 (by decide) rfl)
theorem r265_46 : Sd gd_mt M265 46 (i_psh (.int 1) 47) := sd_iconst dX8_chairs_46 (by decide) rfl
theorem r265_47 : Sd gd_mt M265 47 (i_cV 183 3 8 50) := sd_cV2 e183 cal183 q1639 q1641 (rfl : gd_cl 8 = some _) qs30 dX8_chairs_47 rfl
theorem r265_50 : Sd gd_mt M265 50 (i_msk [true, true, true, true, false] (i_ifne 55 53)) := sd_msk _ (sd_ifne dX8_chairs_50 (by decide) rfl)
theorem r265_53 : Sd gd_mt M265 53 (i_msk [false, false, false, false, false] (i_psh (.int 0) 54)) := sd_msk _ (sd_iconst dX8_chairs_53 (by decide) rfl)
theorem r265_54 : Sd gd_mt M265 54 (i_iret) := sd_iret rfl dX8_chairs_54
theorem r265_55 : Sd gd_mt M265 55 (i_psh (.int 999) 58) := sd_sipush dX8_chairs_55 (by decide) rfl
theorem r265_58 : Sd gd_mt M265 58 (i_ist 4 60) := sd_istore dX8_chairs_58 (by decide) rfl
theorem r265_60 : Sd gd_mt M265 60 (i_msk [true, true, true, true, true] (i_ald 0 61)) := sd_msk _ (sd_aload_n dX8_chairs_60 rfl rfl)
theorem r265_61 : Sd gd_mt M265 61 (i_ild 2 62) := sd_iload_n dX8_chairs_61 rfl rfl
theorem r265_62 : Sd gd_mt M265 62 (i_ild 4 64) := sd_iload dX8_chairs_62 rfl
theorem r265_64 : Sd gd_mt M265 64 (i_cV 266 2 8 67) := sd_cV2 e266 cal266 q1981 q1983 (rfl : gd_cl 8 = some _) qs80 dX8_chairs_64 rfl
theorem r265_67 : Sd gd_mt M265 67 (i_msk [true, true, true, true, true] (i_ild 3 68)) := sd_msk _ (sd_iload_n dX8_chairs_67 rfl rfl)
theorem r265_68 : Sd gd_mt M265 68 (i_icle 77 71) := sd_icle dX8_chairs_68 (by decide) rfl
theorem r265_71 : Sd gd_mt M265 71 (i_inc 4 (-1) 74) := sd_iinc dX8_chairs_71 (by decide) (by decide) rfl
theorem r265_74 : Sd gd_mt M265 74 (i_goto 60) := sd_goto dX8_chairs_74 (by decide)
theorem r265_77 : Sd gd_mt M265 77 (i_ild 2 78) := sd_iload_n dX8_chairs_77 rfl rfl
theorem r265_78 : Sd gd_mt M265 78 (i_ild 1 79) := sd_iload_n dX8_chairs_78 rfl rfl
theorem r265_79 : Sd gd_mt M265 79 (i_ishr 80) := sd_ishr dX8_chairs_79 rfl
theorem r265_80 : Sd gd_mt M265 80 (i_psh (.int 1) 81) := sd_iconst dX8_chairs_80 (by decide) rfl
theorem r265_81 : Sd gd_mt M265 81 (i_iand 82) := sd_iand dX8_chairs_81 rfl
theorem r265_82 : Sd gd_mt M265 82 (i_ifne 87 85) := sd_ifne dX8_chairs_82 (by decide) rfl
theorem r265_85 : Sd gd_mt M265 85 (i_psh (.int 0) 86) := sd_iconst dX8_chairs_85 (by decide) rfl
def cl265_0 : List (Nat × gd_I) := [(0, i_ald 0 1), (1, i_psh (.int 0) 2), (2, i_putI 8 0 5), (5, i_ald 0 6), (6, i_ild 1 7), (7, i_psh (.int 1) 8), (8, i_cV 239 2 8 11), (11, i_msk [true, true, true, true, false] (i_ifeq 53 14)), (14, i_ald 0 15), (15, i_ild 2 16), (16, i_iflt 44 19), (19, i_ild 2 20), (20, i_psh (.int 1) 21), (21, i_ald 0 22), (22, i_getI 8 21 25), (25, i_ishl 26), (26, i_icge 44 29), (29, i_ild 3 30), (30, i_psh (.int 0) 31), (31, i_psh (.int 9999) 34), (34, i_cS 233 3 37), (37, i_msk [true, true, true, true, false] (i_ifeq 44 40)), (40, i_psh (.int 1) 41), (41, i_goto 45), (44, i_msk [true, true, true, true, false] (i_psh (.int 0) 45)), (45, i_msk [true, true, true, true, false] (i_psh (.int 2) 46)), (46, i_psh (.int 1) 47), (47, i_cV 183 3 8 50), (50, i_msk [true, true, true, true, false] (i_ifne 55 53)), (53, i_msk [false, false, false, false, false] (i_psh (.int 0) 54)), (54, i_iret), (55, i_psh (.int 999) 58), (58, i_ist 4 60), (60, i_msk [true, true, true, true, true] (i_ald 0 61)), (61, i_ild 2 62), (62, i_ild 4 64), (64, i_cV 266 2 8 67), (67, i_msk [true, true, true, true, true] (i_ild 3 68)), (68, i_icle 77 71), (71, i_inc 4 (-1) 74), (74, i_goto 60), (77, i_ild 2 78), (78, i_ild 1 79), (79, i_ishr 80), (80, i_psh (.int 1) 81), (81, i_iand 82), (82, i_ifne 87 85), (85, i_psh (.int 0) 86)]
theorem cs265_0 : ∀ q ∈ cl265_0, Sd gd_mt M265 q.1 q.2 := gd_ac r265_0 (gd_ac r265_1 (gd_ac r265_2 (gd_ac r265_5 (gd_ac r265_6 (gd_ac r265_7 (gd_ac r265_8 (gd_ac r265_11 (gd_ac r265_14 (gd_ac r265_15 (gd_ac r265_16 (gd_ac r265_19 (gd_ac r265_20 (gd_ac r265_21 (gd_ac r265_22 (gd_ac r265_25 (gd_ac r265_26 (gd_ac r265_29 (gd_ac r265_30 (gd_ac r265_31 (gd_ac r265_34 (gd_ac r265_37 (gd_ac r265_40 (gd_ac r265_41 (gd_ac r265_44 (gd_ac r265_45 (gd_ac r265_46 (gd_ac r265_47 (gd_ac r265_50 (gd_ac r265_53 (gd_ac r265_54 (gd_ac r265_55 (gd_ac r265_58 (gd_ac r265_60 (gd_ac r265_61 (gd_ac r265_62 (gd_ac r265_64 (gd_ac r265_67 (gd_ac r265_68 (gd_ac r265_71 (gd_ac r265_74 (gd_ac r265_77 (gd_ac r265_78 (gd_ac r265_79 (gd_ac r265_80 (gd_ac r265_81 (gd_ac r265_82 (gd_ac r265_85 (gd_an))))))))))))))))))))))))))))))))))))))))))))))))
theorem r265_86 : Sd gd_mt M265 86 (i_iret) := sd_iret rfl dX8_chairs_86
theorem r265_87 : Sd gd_mt M265 87 (i_ald 0 88) := sd_aload_n dX8_chairs_87 rfl rfl
theorem r265_88 : Sd gd_mt M265 88 (i_getR 8 38 91) := sd_getR ck8 (by decide) rfl (.inl q1492) dX8_chairs_88 rfl
theorem r265_91 : Sd gd_mt M265 91 (i_psh (.int 0) 92) := sd_iconst dX8_chairs_91 (by decide) rfl
theorem r265_92 : Sd gd_mt M265 92 (i_ild 1 93) := sd_iload_n dX8_chairs_92 rfl rfl
theorem r265_93 : Sd gd_mt M265 93 (i_iadd 94) := sd_iadd dX8_chairs_93 rfl
theorem r265_94 : Sd gd_mt M265 94 (i_aldI 31 95) := sd_iald dX8_chairs_94 rfl
theorem r265_95 : Sd gd_mt M265 95 (i_ild 4 97) := sd_iload dX8_chairs_95 rfl
theorem r265_97 : Sd gd_mt M265 97 (i_icge 111 100) := sd_icge dX8_chairs_97 (by decide) rfl
theorem r265_100 : Sd gd_mt M265 100 (i_ald 0 101) := sd_aload_n dX8_chairs_100 rfl rfl
theorem r265_101 : Sd gd_mt M265 101 (i_getR 8 38 104) := sd_getR ck8 (by decide) rfl (.inl q1492) dX8_chairs_101 rfl
theorem r265_104 : Sd gd_mt M265 104 (i_psh (.int 0) 105) := sd_iconst dX8_chairs_104 (by decide) rfl
theorem r265_105 : Sd gd_mt M265 105 (i_ild 1 106) := sd_iload_n dX8_chairs_105 rfl rfl
theorem r265_106 : Sd gd_mt M265 106 (i_iadd 107) := sd_iadd dX8_chairs_106 rfl
theorem r265_107 : Sd gd_mt M265 107 (i_aldI 31 108) := sd_iald dX8_chairs_107 rfl
theorem r265_108 : Sd gd_mt M265 108 (i_goto 113) := sd_goto dX8_chairs_108 (by decide)
theorem r265_111 : Sd gd_mt M265 111 (i_ild 4 113) := sd_iload dX8_chairs_111 rfl
theorem r265_113 : Sd gd_mt M265 113 (i_msk [false, false, false, false, false] (i_iret)) := sd_msk _ (sd_iret rfl dX8_chairs_113)
def cl265_1 : List (Nat × gd_I) := [(86, i_iret), (87, i_ald 0 88), (88, i_getR 8 38 91), (91, i_psh (.int 0) 92), (92, i_ild 1 93), (93, i_iadd 94), (94, i_aldI 31 95), (95, i_ild 4 97), (97, i_icge 111 100), (100, i_ald 0 101), (101, i_getR 8 38 104), (104, i_psh (.int 0) 105), (105, i_ild 1 106), (106, i_iadd 107), (107, i_aldI 31 108), (108, i_goto 113), (111, i_ild 4 113), (113, i_msk [false, false, false, false, false] (i_iret))]
theorem cs265_1 : ∀ q ∈ cl265_1, Sd gd_mt M265 q.1 q.2 := gd_ac r265_86 (gd_ac r265_87 (gd_ac r265_88 (gd_ac r265_91 (gd_ac r265_92 (gd_ac r265_93 (gd_ac r265_94 (gd_ac r265_95 (gd_ac r265_97 (gd_ac r265_100 (gd_ac r265_101 (gd_ac r265_104 (gd_ac r265_105 (gd_ac r265_106 (gd_ac r265_107 (gd_ac r265_108 (gd_ac r265_111 (gd_ac r265_113 (gd_an))))))))))))))))))
def cd265 (pc : Nat) : gd_I := if pc < 86 then lkI cl265_0 pc else lkI cl265_1 pc
theorem cg265 : ∀ pc, Sd gd_mt M265 pc (cd265 pc) := by
  intro pc
  unfold cd265
  by_cases h0 : pc < 86
  · rw [if_pos h0]; exact sd_lk cs265_0 pc
  rw [if_neg h0]
  exact sd_lk cs265_1 pc
theorem r266_0 : Sd gd_mt M266 0 (i_psh (.int 0) 1) := sd_iconst dX8_chairsBy_0 (by decide) rfl
theorem r266_1 : Sd gd_mt M266 1 (i_ist 3 2) := sd_istore_n dX8_chairsBy_1 rfl (by decide) rfl
theorem r266_2 : Sd gd_mt M266 2 (i_psh (.int 0) 3) := sd_iconst dX8_chairsBy_2 (by decide) rfl
theorem r266_3 : Sd gd_mt M266 3 (i_ist 4 5) := sd_istore dX8_chairsBy_3 (by decide) rfl
theorem r266_5 : Sd gd_mt M266 5 (i_msk [true, true, true, true, true] (i_ild 4 7)) := sd_msk _ (sd_iload dX8_chairsBy_5 rfl)
theorem r266_7 : Sd gd_mt M266 7 (i_ald 0 8) := sd_aload_n dX8_chairsBy_7 rfl rfl
theorem r266_8 : Sd gd_mt M266 8 (i_getI 8 21 11) := sd_getI ck8 (by decide) rfl (.inl q1475) dX8_chairsBy_8 rfl
theorem r266_11 : Sd gd_mt M266 11 (i_icge 56 14) := sd_icge dX8_chairsBy_11 (by decide) rfl
theorem r266_14 : Sd gd_mt M266 14 (i_ild 3 15) := sd_iload_n dX8_chairsBy_14 rfl rfl
theorem r266_15 : Sd gd_mt M266 15 (i_ild 1 16) := sd_iload_n dX8_chairsBy_15 rfl rfl
theorem r266_16 : Sd gd_mt M266 16 (i_ild 4 18) := sd_iload dX8_chairsBy_16 rfl
theorem r266_18 : Sd gd_mt M266 18 (i_ishr 19) := sd_ishr dX8_chairsBy_18 rfl
theorem r266_19 : Sd gd_mt M266 19 (i_psh (.int 1) 20) := sd_iconst dX8_chairsBy_19 (by decide) rfl
theorem r266_20 : Sd gd_mt M266 20 (i_iand 21) := sd_iand dX8_chairsBy_20 rfl
theorem r266_21 : Sd gd_mt M266 21 (i_ald 0 22) := sd_aload_n dX8_chairsBy_21 rfl rfl
theorem r266_22 : Sd gd_mt M266 22 (i_getR 8 38 25) := sd_getR ck8 (by decide) rfl (.inl q1492) dX8_chairsBy_22 rfl
theorem r266_25 : Sd gd_mt M266 25 (i_psh (.int 0) 26) := sd_iconst dX8_chairsBy_25 (by decide) rfl
theorem r266_26 : Sd gd_mt M266 26 (i_ild 4 28) := sd_iload dX8_chairsBy_26 rfl
theorem r266_28 : Sd gd_mt M266 28 (i_iadd 29) := sd_iadd dX8_chairsBy_28 rfl
theorem r266_29 : Sd gd_mt M266 29 (i_aldI 31 30) := sd_iald dX8_chairsBy_29 rfl
theorem r266_30 : Sd gd_mt M266 30 (i_ild 2 31) := sd_iload_n dX8_chairsBy_30 rfl rfl
theorem r266_31 : Sd gd_mt M266 31 (i_icge 46 34) := sd_icge dX8_chairsBy_31 (by decide) rfl
theorem r266_34 : Sd gd_mt M266 34 (i_ald 0 35) := sd_aload_n dX8_chairsBy_34 rfl rfl
theorem r266_35 : Sd gd_mt M266 35 (i_getR 8 38 38) := sd_getR ck8 (by decide) rfl (.inl q1492) dX8_chairsBy_35 rfl
theorem r266_38 : Sd gd_mt M266 38 (i_psh (.int 0) 39) := sd_iconst dX8_chairsBy_38 (by decide) rfl
theorem r266_39 : Sd gd_mt M266 39 (i_ild 4 41) := sd_iload dX8_chairsBy_39 rfl
theorem r266_41 : Sd gd_mt M266 41 (i_iadd 42) := sd_iadd dX8_chairsBy_41 rfl
theorem r266_42 : Sd gd_mt M266 42 (i_aldI 31 43) := sd_iald dX8_chairsBy_42 rfl
theorem r266_43 : Sd gd_mt M266 43 (i_goto 47) := sd_goto dX8_chairsBy_43 (by decide)
theorem r266_46 : Sd gd_mt M266 46 (i_ild 2 47) := sd_iload_n dX8_chairsBy_46 rfl rfl
theorem r266_47 : Sd gd_mt M266 47 (i_msk [true, true, true, false, true] (i_imul 48)) := sd_msk _ (sd_imul dX8_chairsBy_47 rfl)
theorem r266_48 : Sd gd_mt M266 48 (i_iadd 49) := sd_iadd dX8_chairsBy_48 rfl
theorem r266_49 : Sd gd_mt M266 49 (i_ist 3 50) := sd_istore_n dX8_chairsBy_49 rfl (by decide) rfl
theorem r266_50 : Sd gd_mt M266 50 (i_inc 4 1 53) := sd_iinc dX8_chairsBy_50 (by decide) (by decide) rfl
theorem r266_53 : Sd gd_mt M266 53 (i_goto 5) := sd_goto dX8_chairsBy_53 (by decide)
theorem r266_56 : Sd gd_mt M266 56 (i_ild 3 57) := sd_iload_n dX8_chairsBy_56 rfl rfl
theorem r266_57 : Sd gd_mt M266 57 (i_iret) := sd_iret rfl dX8_chairsBy_57
def cl266_0 : List (Nat × gd_I) := [(0, i_psh (.int 0) 1), (1, i_ist 3 2), (2, i_psh (.int 0) 3), (3, i_ist 4 5), (5, i_msk [true, true, true, true, true] (i_ild 4 7)), (7, i_ald 0 8), (8, i_getI 8 21 11), (11, i_icge 56 14), (14, i_ild 3 15), (15, i_ild 1 16), (16, i_ild 4 18), (18, i_ishr 19), (19, i_psh (.int 1) 20), (20, i_iand 21), (21, i_ald 0 22), (22, i_getR 8 38 25), (25, i_psh (.int 0) 26), (26, i_ild 4 28), (28, i_iadd 29), (29, i_aldI 31 30), (30, i_ild 2 31), (31, i_icge 46 34), (34, i_ald 0 35), (35, i_getR 8 38 38), (38, i_psh (.int 0) 39), (39, i_ild 4 41), (41, i_iadd 42), (42, i_aldI 31 43), (43, i_goto 47), (46, i_ild 2 47), (47, i_msk [true, true, true, false, true] (i_imul 48)), (48, i_iadd 49), (49, i_ist 3 50), (50, i_inc 4 1 53), (53, i_goto 5), (56, i_ild 3 57), (57, i_iret)]
theorem cs266_0 : ∀ q ∈ cl266_0, Sd gd_mt M266 q.1 q.2 := gd_ac r266_0 (gd_ac r266_1 (gd_ac r266_2 (gd_ac r266_3 (gd_ac r266_5 (gd_ac r266_7 (gd_ac r266_8 (gd_ac r266_11 (gd_ac r266_14 (gd_ac r266_15 (gd_ac r266_16 (gd_ac r266_18 (gd_ac r266_19 (gd_ac r266_20 (gd_ac r266_21 (gd_ac r266_22 (gd_ac r266_25 (gd_ac r266_26 (gd_ac r266_28 (gd_ac r266_29 (gd_ac r266_30 (gd_ac r266_31 (gd_ac r266_34 (gd_ac r266_35 (gd_ac r266_38 (gd_ac r266_39 (gd_ac r266_41 (gd_ac r266_42 (gd_ac r266_43 (gd_ac r266_46 (gd_ac r266_47 (gd_ac r266_48 (gd_ac r266_49 (gd_ac r266_50 (gd_ac r266_53 (gd_ac r266_56 (gd_ac r266_57 (gd_an)))))))))))))))))))))))))))))))))))))
def cd266 (pc : Nat) : gd_I := lkI cl266_0 pc
theorem cg266 : ∀ pc, Sd gd_mt M266 pc (cd266 pc) := sd_lk cs266_0
theorem r267_0 : Sd gd_mt M267 0 (i_ald 0 1) := sd_aload_n dX8_tallest_0 rfl rfl
theorem r267_1 : Sd gd_mt M267 1 (i_psh (.int 0) 2) := sd_iconst dX8_tallest_1 (by decide) rfl
theorem r267_2 : Sd gd_mt M267 2 (i_putI 8 0 5) := sd_putI ck8 (by decide) rfl (.inl q1454) (.inl rfl) dX8_tallest_2 rfl
theorem r267_5 : Sd gd_mt M267 5 (i_ald 0 6) := sd_aload_n dX8_tallest_5 rfl rfl
theorem r267_6 : Sd gd_mt M267 6 (i_ild 1 7) := sd_iload_n dX8_tallest_6 rfl rfl
theorem r267_7 : Sd gd_mt M267 7 (i_psh (.int 0) 8) := sd_iconst dX8_tallest_7 (by decide) rfl
theorem r267_8 : Sd gd_mt M267 8 (i_psh (.int 1) 9) := sd_iconst dX8_tallest_8 (by decide) rfl
theorem r267_9 : Sd gd_mt M267 9 (i_cS 233 3 12) := sd_cS2 e233 cal233 q1853 q1854 dX8_tallest_9 rfl
theorem r267_12 : Sd gd_mt M267 12 (i_msk [true, true, false, false] (i_psh (.int 1) 13)) := sd_msk _ (sd_iconst dX8_tallest_12 (by decide) rfl)
theorem r267_13 : Sd gd_mt M267 13 (i_psh (.int 1) 14) := sd_iconst dX8_tallest_13 (by decide) rfl
theorem r267_14 : Sd gd_mt M267 14 (i_cV 183 3 8 17) := sd_cV2 e183 cal183 q1639 q1641 (rfl : gd_cl 8 = some _) qs30 dX8_tallest_14 rfl
theorem r267_17 : Sd gd_mt M267 17 (i_msk [true, true, false, false] (i_ifne 22 20)) := sd_msk _ (sd_ifne dX8_tallest_17 (by decide) rfl)
theorem r267_20 : Sd gd_mt M267 20 (i_psh (.int 0) 21) := sd_iconst dX8_tallest_20 (by decide) rfl
theorem r267_21 : Sd gd_mt M267 21 (i_iret) := sd_iret rfl dX8_tallest_21
theorem r267_22 : Sd gd_mt M267 22 (i_psh (.int (-1)) 23) := sd_iconst dX8_tallest_22 (by decide) rfl
theorem r267_23 : Sd gd_mt M267 23 (i_ist 2 24) := sd_istore_n dX8_tallest_23 rfl (by decide) rfl
theorem r267_24 : Sd gd_mt M267 24 (i_psh (.int 0) 25) := sd_iconst dX8_tallest_24 (by decide) rfl
theorem r267_25 : Sd gd_mt M267 25 (i_ist 3 26) := sd_istore_n dX8_tallest_25 rfl (by decide) rfl
theorem r267_26 : Sd gd_mt M267 26 (i_msk [true, true, true, true] (i_ild 3 27)) := sd_msk _ (sd_iload_n dX8_tallest_26 rfl rfl)
theorem r267_27 : Sd gd_mt M267 27 (i_ald 0 28) := sd_aload_n dX8_tallest_27 rfl rfl
theorem r267_28 : Sd gd_mt M267 28 (i_getI 8 21 31) := sd_getI ck8 (by decide) rfl (.inl q1475) dX8_tallest_28 rfl
theorem r267_31 : Sd gd_mt M267 31 (i_icge 66 34) := sd_icge dX8_tallest_31 (by decide) rfl
theorem r267_34 : Sd gd_mt M267 34 (i_ild 2 35) := sd_iload_n dX8_tallest_34 rfl rfl
theorem r267_35 : Sd gd_mt M267 35 (i_psh (.int (-1)) 36) := sd_iconst dX8_tallest_35 (by decide) rfl
theorem r267_36 : Sd gd_mt M267 36 (i_iceq 58 39) := sd_iceq dX8_tallest_36 (by decide) rfl
theorem r267_39 : Sd gd_mt M267 39 (i_ald 0 40) := sd_aload_n dX8_tallest_39 rfl rfl
theorem r267_40 : Sd gd_mt M267 40 (i_getR 8 38 43) := sd_getR ck8 (by decide) rfl (.inl q1492) dX8_tallest_40 rfl
theorem r267_43 : Sd gd_mt M267 43 (i_psh (.int 0) 44) := sd_iconst dX8_tallest_43 (by decide) rfl
theorem r267_44 : Sd gd_mt M267 44 (i_ild 3 45) := sd_iload_n dX8_tallest_44 rfl rfl
theorem r267_45 : Sd gd_mt M267 45 (i_iadd 46) := sd_iadd dX8_tallest_45 rfl
theorem r267_46 : Sd gd_mt M267 46 (i_aldI 31 47) := sd_iald dX8_tallest_46 rfl
theorem r267_47 : Sd gd_mt M267 47 (i_ald 0 48) := sd_aload_n dX8_tallest_47 rfl rfl
theorem r267_48 : Sd gd_mt M267 48 (i_getR 8 38 51) := sd_getR ck8 (by decide) rfl (.inl q1492) dX8_tallest_48 rfl
theorem r267_51 : Sd gd_mt M267 51 (i_psh (.int 0) 52) := sd_iconst dX8_tallest_51 (by decide) rfl
theorem r267_52 : Sd gd_mt M267 52 (i_ild 2 53) := sd_iload_n dX8_tallest_52 rfl rfl
theorem r267_53 : Sd gd_mt M267 53 (i_iadd 54) := sd_iadd dX8_tallest_53 rfl
theorem r267_54 : Sd gd_mt M267 54 (i_aldI 31 55) := sd_iald dX8_tallest_54 rfl
theorem r267_55 : Sd gd_mt M267 55 (i_icle 60 58) := sd_icle dX8_tallest_55 (by decide) rfl
theorem r267_58 : Sd gd_mt M267 58 (i_msk [true, true, false, true] (i_ild 3 59)) := sd_msk _ (sd_iload_n dX8_tallest_58 rfl rfl)
theorem r267_59 : Sd gd_mt M267 59 (i_ist 2 60) := sd_istore_n dX8_tallest_59 rfl (by decide) rfl
theorem r267_60 : Sd gd_mt M267 60 (i_msk [true, true, true, true] (i_inc 3 1 63)) := sd_msk _ (sd_iinc dX8_tallest_60 (by decide) (by decide) rfl)
theorem r267_63 : Sd gd_mt M267 63 (i_goto 26) := sd_goto dX8_tallest_63 (by decide)
theorem r267_66 : Sd gd_mt M267 66 (i_ild 1 67) := sd_iload_n dX8_tallest_66 rfl rfl
theorem r267_67 : Sd gd_mt M267 67 (i_ifeq 75 70) := sd_ifeq dX8_tallest_67 (by decide) rfl
theorem r267_70 : Sd gd_mt M267 70 (i_ild 2 71) := sd_iload_n dX8_tallest_70 rfl rfl
theorem r267_71 : Sd gd_mt M267 71 (i_psh (.int (-1)) 72) := sd_iconst dX8_tallest_71 (by decide) rfl
theorem r267_72 : Sd gd_mt M267 72 (i_icne 79 75) := sd_icne dX8_tallest_72 (by decide) rfl
theorem r267_75 : Sd gd_mt M267 75 (i_msk [false, false, true, false] (i_ild 2 76)) := sd_msk _ (sd_iload_n dX8_tallest_75 rfl rfl)
def cl267_0 : List (Nat × gd_I) := [(0, i_ald 0 1), (1, i_psh (.int 0) 2), (2, i_putI 8 0 5), (5, i_ald 0 6), (6, i_ild 1 7), (7, i_psh (.int 0) 8), (8, i_psh (.int 1) 9), (9, i_cS 233 3 12), (12, i_msk [true, true, false, false] (i_psh (.int 1) 13)), (13, i_psh (.int 1) 14), (14, i_cV 183 3 8 17), (17, i_msk [true, true, false, false] (i_ifne 22 20)), (20, i_psh (.int 0) 21), (21, i_iret), (22, i_psh (.int (-1)) 23), (23, i_ist 2 24), (24, i_psh (.int 0) 25), (25, i_ist 3 26), (26, i_msk [true, true, true, true] (i_ild 3 27)), (27, i_ald 0 28), (28, i_getI 8 21 31), (31, i_icge 66 34), (34, i_ild 2 35), (35, i_psh (.int (-1)) 36), (36, i_iceq 58 39), (39, i_ald 0 40), (40, i_getR 8 38 43), (43, i_psh (.int 0) 44), (44, i_ild 3 45), (45, i_iadd 46), (46, i_aldI 31 47), (47, i_ald 0 48), (48, i_getR 8 38 51), (51, i_psh (.int 0) 52), (52, i_ild 2 53), (53, i_iadd 54), (54, i_aldI 31 55), (55, i_icle 60 58), (58, i_msk [true, true, false, true] (i_ild 3 59)), (59, i_ist 2 60), (60, i_msk [true, true, true, true] (i_inc 3 1 63)), (63, i_goto 26), (66, i_ild 1 67), (67, i_ifeq 75 70), (70, i_ild 2 71), (71, i_psh (.int (-1)) 72), (72, i_icne 79 75), (75, i_msk [false, false, true, false] (i_ild 2 76))]
theorem cs267_0 : ∀ q ∈ cl267_0, Sd gd_mt M267 q.1 q.2 := gd_ac r267_0 (gd_ac r267_1 (gd_ac r267_2 (gd_ac r267_5 (gd_ac r267_6 (gd_ac r267_7 (gd_ac r267_8 (gd_ac r267_9 (gd_ac r267_12 (gd_ac r267_13 (gd_ac r267_14 (gd_ac r267_17 (gd_ac r267_20 (gd_ac r267_21 (gd_ac r267_22 (gd_ac r267_23 (gd_ac r267_24 (gd_ac r267_25 (gd_ac r267_26 (gd_ac r267_27 (gd_ac r267_28 (gd_ac r267_31 (gd_ac r267_34 (gd_ac r267_35 (gd_ac r267_36 (gd_ac r267_39 (gd_ac r267_40 (gd_ac r267_43 (gd_ac r267_44 (gd_ac r267_45 (gd_ac r267_46 (gd_ac r267_47 (gd_ac r267_48 (gd_ac r267_51 (gd_ac r267_52 (gd_ac r267_53 (gd_ac r267_54 (gd_ac r267_55 (gd_ac r267_58 (gd_ac r267_59 (gd_ac r267_60 (gd_ac r267_63 (gd_ac r267_66 (gd_ac r267_67 (gd_ac r267_70 (gd_ac r267_71 (gd_ac r267_72 (gd_ac r267_75 (gd_an))))))))))))))))))))))))))))))))))))))))))))))))
theorem r267_76 : Sd gd_mt M267 76 (i_goto 87) := sd_goto dX8_tallest_76 (by decide)
theorem r267_79 : Sd gd_mt M267 79 (i_ald 0 80) := sd_aload_n dX8_tallest_79 rfl rfl
theorem r267_80 : Sd gd_mt M267 80 (i_getR 8 38 83) := sd_getR ck8 (by decide) rfl (.inl q1492) dX8_tallest_80 rfl
theorem r267_83 : Sd gd_mt M267 83 (i_psh (.int 0) 84) := sd_iconst dX8_tallest_83 (by decide) rfl
theorem r267_84 : Sd gd_mt M267 84 (i_ild 2 85) := sd_iload_n dX8_tallest_84 rfl rfl
theorem r267_85 : Sd gd_mt M267 85 (i_iadd 86) := sd_iadd dX8_tallest_85 rfl
theorem r267_86 : Sd gd_mt M267 86 (i_aldI 31 87) := sd_iald dX8_tallest_86 rfl
theorem r267_87 : Sd gd_mt M267 87 (i_msk [false, false, false, false] (i_iret)) := sd_msk _ (sd_iret rfl dX8_tallest_87)
def cl267_1 : List (Nat × gd_I) := [(76, i_goto 87), (79, i_ald 0 80), (80, i_getR 8 38 83), (83, i_psh (.int 0) 84), (84, i_ild 2 85), (85, i_iadd 86), (86, i_aldI 31 87), (87, i_msk [false, false, false, false] (i_iret))]
theorem cs267_1 : ∀ q ∈ cl267_1, Sd gd_mt M267 q.1 q.2 := gd_ac r267_76 (gd_ac r267_79 (gd_ac r267_80 (gd_ac r267_83 (gd_ac r267_84 (gd_ac r267_85 (gd_ac r267_86 (gd_ac r267_87 (gd_an))))))))
def cd267 (pc : Nat) : gd_I := if pc < 76 then lkI cl267_0 pc else lkI cl267_1 pc
theorem cg267 : ∀ pc, Sd gd_mt M267 pc (cd267 pc) := by
  intro pc
  unfold cd267
  by_cases h0 : pc < 76
  · rw [if_pos h0]; exact sd_lk cs267_0 pc
  rw [if_neg h0]
  exact sd_lk cs267_1 pc
theorem r268_0 : Sd gd_mt M268 0 (i_ald 0 1) := sd_aload_n dX8_gained_0 rfl rfl
theorem r268_1 : Sd gd_mt M268 1 (i_psh (.int 0) 2) := sd_iconst dX8_gained_1 (by decide) rfl
theorem r268_2 : Sd gd_mt M268 2 (i_putI 8 0 5) := sd_putI ck8 (by decide) rfl (.inl q1454) (.inl rfl) dX8_gained_2 rfl
theorem r268_5 : Sd gd_mt M268 5 (i_ald 0 6) := sd_aload_n dX8_gained_5 rfl rfl
theorem r268_6 : Sd gd_mt M268 6 (i_ild 1 7) := sd_iload_n dX8_gained_6 rfl rfl
theorem r268_7 : Sd gd_mt M268 7 (i_psh (.int 0) 8) := sd_iconst dX8_gained_7 (by decide) rfl
theorem r268_8 : Sd gd_mt M268 8 (i_psh (.int 2) 9) := sd_iconst dX8_gained_8 (by decide) rfl
theorem r268_9 : Sd gd_mt M268 9 (i_cS 233 3 12) := sd_cS2 e233 cal233 q1853 q1854 dX8_gained_9 rfl
theorem r268_12 : Sd gd_mt M268 12 (i_msk [true, true, false, false, false, false] (i_psh (.int 1) 13)) := sd_msk _ (sd_iconst dX8_gained_12 (by decide) rfl)
theorem r268_13 : Sd gd_mt M268 13 (i_psh (.int 1) 14) := sd_iconst dX8_gained_13 (by decide) rfl
theorem r268_14 : Sd gd_mt M268 14 (i_cV 183 3 8 17) := sd_cV2 e183 cal183 q1639 q1641 (rfl : gd_cl 8 = some _) qs30 dX8_gained_14 rfl
theorem r268_17 : Sd gd_mt M268 17 (i_msk [true, true, false, false, false, false] (i_ifne 22 20)) := sd_msk _ (sd_ifne dX8_gained_17 (by decide) rfl)
theorem r268_20 : Sd gd_mt M268 20 (i_psh (.int 0) 21) := sd_iconst dX8_gained_20 (by decide) rfl
theorem r268_21 : Sd gd_mt M268 21 (i_iret) := sd_iret rfl dX8_gained_21
theorem r268_22 : Sd gd_mt M268 22 (i_ald 0 23) := sd_aload_n dX8_gained_22 rfl rfl
theorem r268_23 : Sd gd_mt M268 23 (i_cV 211 0 8 26) := sd_cV2 e211 cal211 q1767 q1769 (rfl : gd_cl 8 = some _) qs52 dX8_gained_23 rfl
theorem r268_26 : Sd gd_mt M268 26 (i_msk [true, true, false, false, false, false] (i_psh (.int 0) 27)) := sd_msk _ (sd_iconst dX8_gained_26 (by decide) rfl)
theorem r268_27 : Sd gd_mt M268 27 (i_ist 2 28) := sd_istore_n dX8_gained_27 rfl (by decide) rfl
theorem r268_28 : Sd gd_mt M268 28 (i_psh (.int 0) 29) := sd_iconst dX8_gained_28 (by decide) rfl
theorem r268_29 : Sd gd_mt M268 29 (i_ist 3 30) := sd_istore_n dX8_gained_29 rfl (by decide) rfl
theorem r268_30 : Sd gd_mt M268 30 (i_msk [true, true, true, true, false, false] (i_ild 3 31)) := sd_msk _ (sd_iload_n dX8_gained_30 rfl rfl)
theorem r268_31 : Sd gd_mt M268 31 (i_ald 0 32) := sd_aload_n dX8_gained_31 rfl rfl
theorem r268_32 : Sd gd_mt M268 32 (i_getI 8 21 35) := sd_getI ck8 (by decide) rfl (.inl q1475) dX8_gained_32 rfl
theorem r268_35 : Sd gd_mt M268 35 (i_icge 126 38) := sd_icge dX8_gained_35 (by decide) rfl
theorem r268_38 : Sd gd_mt M268 38 (i_ald 0 39) := sd_aload_n dX8_gained_38 rfl rfl
theorem r268_39 : Sd gd_mt M268 39 (i_ild 3 40) := sd_iload_n dX8_gained_39 rfl rfl
theorem r268_40 : Sd gd_mt M268 40 (i_cV 222 1 8 43) := sd_cV2 e222 cal222 q1811 q1813 (rfl : gd_cl 8 = some _) qs63 dX8_gained_40 rfl
theorem r268_43 : Sd gd_mt M268 43 (i_msk [true, true, true, true, false, false] (i_ist 4 45)) := sd_msk _ (sd_istore dX8_gained_43 (by decide) rfl)
theorem r268_45 : Sd gd_mt M268 45 (i_ild 1 46) := sd_iload_n dX8_gained_45 rfl rfl
theorem r268_46 : Sd gd_mt M268 46 (i_ifne 62 49) := sd_ifne dX8_gained_46 (by decide) rfl
theorem r268_49 : Sd gd_mt M268 49 (i_ild 4 51) := sd_iload dX8_gained_49 rfl
theorem r268_51 : Sd gd_mt M268 51 (i_ifle 58 54) := sd_ifle dX8_gained_51 (by decide) rfl
theorem r268_54 : Sd gd_mt M268 54 (i_psh (.int 1) 55) := sd_iconst dX8_gained_54 (by decide) rfl
theorem r268_55 : Sd gd_mt M268 55 (i_goto 90) := sd_goto dX8_gained_55 (by decide)
theorem r268_58 : Sd gd_mt M268 58 (i_psh (.int 0) 59) := sd_iconst dX8_gained_58 (by decide) rfl
theorem r268_59 : Sd gd_mt M268 59 (i_goto 90) := sd_goto dX8_gained_59 (by decide)
theorem r268_62 : Sd gd_mt M268 62 (i_ild 1 63) := sd_iload_n dX8_gained_62 rfl rfl
theorem r268_63 : Sd gd_mt M268 63 (i_psh (.int 1) 64) := sd_iconst dX8_gained_63 (by decide) rfl
theorem r268_64 : Sd gd_mt M268 64 (i_icne 80 67) := sd_icne dX8_gained_64 (by decide) rfl
theorem r268_67 : Sd gd_mt M268 67 (i_ild 4 69) := sd_iload dX8_gained_67 rfl
theorem r268_69 : Sd gd_mt M268 69 (i_ifne 76 72) := sd_ifne dX8_gained_69 (by decide) rfl
theorem r268_72 : Sd gd_mt M268 72 (i_psh (.int 1) 73) := sd_iconst dX8_gained_72 (by decide) rfl
theorem r268_73 : Sd gd_mt M268 73 (i_goto 90) := sd_goto dX8_gained_73 (by decide)
theorem r268_76 : Sd gd_mt M268 76 (i_psh (.int 0) 77) := sd_iconst dX8_gained_76 (by decide) rfl
theorem r268_77 : Sd gd_mt M268 77 (i_goto 90) := sd_goto dX8_gained_77 (by decide)
theorem r268_80 : Sd gd_mt M268 80 (i_ild 4 82) := sd_iload dX8_gained_80 rfl
theorem r268_82 : Sd gd_mt M268 82 (i_ifge 89 85) := sd_ifge dX8_gained_82 (by decide) rfl
theorem r268_85 : Sd gd_mt M268 85 (i_psh (.int 1) 86) := sd_iconst dX8_gained_85 (by decide) rfl
def cl268_0 : List (Nat × gd_I) := [(0, i_ald 0 1), (1, i_psh (.int 0) 2), (2, i_putI 8 0 5), (5, i_ald 0 6), (6, i_ild 1 7), (7, i_psh (.int 0) 8), (8, i_psh (.int 2) 9), (9, i_cS 233 3 12), (12, i_msk [true, true, false, false, false, false] (i_psh (.int 1) 13)), (13, i_psh (.int 1) 14), (14, i_cV 183 3 8 17), (17, i_msk [true, true, false, false, false, false] (i_ifne 22 20)), (20, i_psh (.int 0) 21), (21, i_iret), (22, i_ald 0 23), (23, i_cV 211 0 8 26), (26, i_msk [true, true, false, false, false, false] (i_psh (.int 0) 27)), (27, i_ist 2 28), (28, i_psh (.int 0) 29), (29, i_ist 3 30), (30, i_msk [true, true, true, true, false, false] (i_ild 3 31)), (31, i_ald 0 32), (32, i_getI 8 21 35), (35, i_icge 126 38), (38, i_ald 0 39), (39, i_ild 3 40), (40, i_cV 222 1 8 43), (43, i_msk [true, true, true, true, false, false] (i_ist 4 45)), (45, i_ild 1 46), (46, i_ifne 62 49), (49, i_ild 4 51), (51, i_ifle 58 54), (54, i_psh (.int 1) 55), (55, i_goto 90), (58, i_psh (.int 0) 59), (59, i_goto 90), (62, i_ild 1 63), (63, i_psh (.int 1) 64), (64, i_icne 80 67), (67, i_ild 4 69), (69, i_ifne 76 72), (72, i_psh (.int 1) 73), (73, i_goto 90), (76, i_psh (.int 0) 77), (77, i_goto 90), (80, i_ild 4 82), (82, i_ifge 89 85), (85, i_psh (.int 1) 86)]
theorem cs268_0 : ∀ q ∈ cl268_0, Sd gd_mt M268 q.1 q.2 := gd_ac r268_0 (gd_ac r268_1 (gd_ac r268_2 (gd_ac r268_5 (gd_ac r268_6 (gd_ac r268_7 (gd_ac r268_8 (gd_ac r268_9 (gd_ac r268_12 (gd_ac r268_13 (gd_ac r268_14 (gd_ac r268_17 (gd_ac r268_20 (gd_ac r268_21 (gd_ac r268_22 (gd_ac r268_23 (gd_ac r268_26 (gd_ac r268_27 (gd_ac r268_28 (gd_ac r268_29 (gd_ac r268_30 (gd_ac r268_31 (gd_ac r268_32 (gd_ac r268_35 (gd_ac r268_38 (gd_ac r268_39 (gd_ac r268_40 (gd_ac r268_43 (gd_ac r268_45 (gd_ac r268_46 (gd_ac r268_49 (gd_ac r268_51 (gd_ac r268_54 (gd_ac r268_55 (gd_ac r268_58 (gd_ac r268_59 (gd_ac r268_62 (gd_ac r268_63 (gd_ac r268_64 (gd_ac r268_67 (gd_ac r268_69 (gd_ac r268_72 (gd_ac r268_73 (gd_ac r268_76 (gd_ac r268_77 (gd_ac r268_80 (gd_ac r268_82 (gd_ac r268_85 (gd_an))))))))))))))))))))))))))))))))))))))))))))))))
theorem r268_86 : Sd gd_mt M268 86 (i_goto 90) := sd_goto dX8_gained_86 (by decide)
theorem r268_89 : Sd gd_mt M268 89 (i_psh (.int 0) 90) := sd_iconst dX8_gained_89 (by decide) rfl
theorem r268_90 : Sd gd_mt M268 90 (i_msk [true, true, true, true, false, false] (i_ist 5 92)) := sd_msk _ (sd_istore dX8_gained_90 (by decide) rfl)
theorem r268_92 : Sd gd_mt M268 92 (i_ild 2 93) := sd_iload_n dX8_gained_92 rfl rfl
theorem r268_93 : Sd gd_mt M268 93 (i_ild 5 95) := sd_iload dX8_gained_93 rfl
theorem r268_95 : Sd gd_mt M268 95 (i_ifeq 117 98) := sd_ifeq dX8_gained_95 (by decide) rfl
theorem r268_98 : Sd gd_mt M268 98 (i_ald 0 99) := sd_aload_n dX8_gained_98 rfl rfl
theorem r268_99 : Sd gd_mt M268 99 (i_getR 8 39 102) := sd_getR ck8 (by decide) rfl (.inl q1493) dX8_gained_99 rfl
theorem r268_102 : Sd gd_mt M268 102 (i_psh (.int 14) 104) := sd_bipush dX8_gained_102 (by decide) rfl
theorem r268_104 : Sd gd_mt M268 104 (i_ild 3 105) := sd_iload_n dX8_gained_104 rfl rfl
theorem r268_105 : Sd gd_mt M268 105 (i_iadd 106) := sd_iadd dX8_gained_105 rfl
theorem r268_106 : Sd gd_mt M268 106 (i_aldI 31 107) := sd_iald dX8_gained_106 rfl
theorem r268_107 : Sd gd_mt M268 107 (i_psh (.int (-1)) 108) := sd_iconst dX8_gained_107 (by decide) rfl
theorem r268_108 : Sd gd_mt M268 108 (i_iceq 117 111) := sd_iceq dX8_gained_108 (by decide) rfl
theorem r268_111 : Sd gd_mt M268 111 (i_psh (.int 1) 112) := sd_iconst dX8_gained_111 (by decide) rfl
theorem r268_112 : Sd gd_mt M268 112 (i_ild 3 113) := sd_iload_n dX8_gained_112 rfl rfl
theorem r268_113 : Sd gd_mt M268 113 (i_ishl 114) := sd_ishl dX8_gained_113 rfl
theorem r268_114 : Sd gd_mt M268 114 (i_goto 118) := sd_goto dX8_gained_114 (by decide)
theorem r268_117 : Sd gd_mt M268 117 (i_msk [true, true, false, true, false, false] (i_psh (.int 0) 118)) := sd_msk _ (sd_iconst dX8_gained_117 (by decide) rfl)
theorem r268_118 : Sd gd_mt M268 118 (i_msk [true, true, false, true, false, false] (i_ior 119)) := sd_msk _ (sd_ior dX8_gained_118 rfl)
theorem r268_119 : Sd gd_mt M268 119 (i_ist 2 120) := sd_istore_n dX8_gained_119 rfl (by decide) rfl
theorem r268_120 : Sd gd_mt M268 120 (i_inc 3 1 123) := sd_iinc dX8_gained_120 (by decide) (by decide) rfl
theorem r268_123 : Sd gd_mt M268 123 (i_goto 30) := sd_goto dX8_gained_123 (by decide)
theorem r268_126 : Sd gd_mt M268 126 (i_ild 2 127) := sd_iload_n dX8_gained_126 rfl rfl
theorem r268_127 : Sd gd_mt M268 127 (i_iret) := sd_iret rfl dX8_gained_127
def cl268_1 : List (Nat × gd_I) := [(86, i_goto 90), (89, i_psh (.int 0) 90), (90, i_msk [true, true, true, true, false, false] (i_ist 5 92)), (92, i_ild 2 93), (93, i_ild 5 95), (95, i_ifeq 117 98), (98, i_ald 0 99), (99, i_getR 8 39 102), (102, i_psh (.int 14) 104), (104, i_ild 3 105), (105, i_iadd 106), (106, i_aldI 31 107), (107, i_psh (.int (-1)) 108), (108, i_iceq 117 111), (111, i_psh (.int 1) 112), (112, i_ild 3 113), (113, i_ishl 114), (114, i_goto 118), (117, i_msk [true, true, false, true, false, false] (i_psh (.int 0) 118)), (118, i_msk [true, true, false, true, false, false] (i_ior 119)), (119, i_ist 2 120), (120, i_inc 3 1 123), (123, i_goto 30), (126, i_ild 2 127), (127, i_iret)]
theorem cs268_1 : ∀ q ∈ cl268_1, Sd gd_mt M268 q.1 q.2 := gd_ac r268_86 (gd_ac r268_89 (gd_ac r268_90 (gd_ac r268_92 (gd_ac r268_93 (gd_ac r268_95 (gd_ac r268_98 (gd_ac r268_99 (gd_ac r268_102 (gd_ac r268_104 (gd_ac r268_105 (gd_ac r268_106 (gd_ac r268_107 (gd_ac r268_108 (gd_ac r268_111 (gd_ac r268_112 (gd_ac r268_113 (gd_ac r268_114 (gd_ac r268_117 (gd_ac r268_118 (gd_ac r268_119 (gd_ac r268_120 (gd_ac r268_123 (gd_ac r268_126 (gd_ac r268_127 (gd_an)))))))))))))))))))))))))
def cd268 (pc : Nat) : gd_I := if pc < 86 then lkI cl268_0 pc else lkI cl268_1 pc
theorem cg268 : ∀ pc, Sd gd_mt M268 pc (cd268 pc) := by
  intro pc
  unfold cd268
  by_cases h0 : pc < 86
  · rw [if_pos h0]; exact sd_lk cs268_0 pc
  rw [if_neg h0]
  exact sd_lk cs268_1 pc
theorem r269_0 : Sd gd_mt M269 0 (i_ald 0 1) := sd_aload_n dX8_lies_0 rfl rfl
theorem r269_1 : Sd gd_mt M269 1 (i_psh (.int 0) 2) := sd_iconst dX8_lies_1 (by decide) rfl
theorem r269_2 : Sd gd_mt M269 2 (i_putI 8 0 5) := sd_putI ck8 (by decide) rfl (.inl q1454) (.inl rfl) dX8_lies_2 rfl
theorem r269_5 : Sd gd_mt M269 5 (i_ald 0 6) := sd_aload_n dX8_lies_5 rfl rfl
theorem r269_6 : Sd gd_mt M269 6 (i_ild 1 7) := sd_iload_n dX8_lies_6 rfl rfl
theorem r269_7 : Sd gd_mt M269 7 (i_psh (.int 0) 8) := sd_iconst dX8_lies_7 (by decide) rfl
theorem r269_8 : Sd gd_mt M269 8 (i_psh (.int 5994) 11) := sd_sipush dX8_lies_8 (by decide) rfl
theorem r269_11 : Sd gd_mt M269 11 (i_cS 233 3 14) := sd_cS2 e233 cal233 q1853 q1854 dX8_lies_11 rfl
theorem r269_14 : Sd gd_mt M269 14 (i_msk [true, true] (i_psh (.int 1) 15)) := sd_msk _ (sd_iconst dX8_lies_14 (by decide) rfl)
theorem r269_15 : Sd gd_mt M269 15 (i_psh (.int 1) 16) := sd_iconst dX8_lies_15 (by decide) rfl
theorem r269_16 : Sd gd_mt M269 16 (i_cV 183 3 8 19) := sd_cV2 e183 cal183 q1639 q1641 (rfl : gd_cl 8 = some _) qs30 dX8_lies_16 rfl
theorem r269_19 : Sd gd_mt M269 19 (i_msk [true, true] (i_ifne 24 22)) := sd_msk _ (sd_ifne dX8_lies_19 (by decide) rfl)
theorem r269_22 : Sd gd_mt M269 22 (i_psh (.int 0) 23) := sd_iconst dX8_lies_22 (by decide) rfl
theorem r269_23 : Sd gd_mt M269 23 (i_iret) := sd_iret rfl dX8_lies_23
theorem r269_24 : Sd gd_mt M269 24 (i_ald 0 25) := sd_aload_n dX8_lies_24 rfl rfl
theorem r269_25 : Sd gd_mt M269 25 (i_cV 211 0 8 28) := sd_cV2 e211 cal211 q1767 q1769 (rfl : gd_cl 8 = some _) qs52 dX8_lies_25 rfl
theorem r269_28 : Sd gd_mt M269 28 (i_msk [true, true] (i_ald 0 29)) := sd_msk _ (sd_aload_n dX8_lies_28 rfl rfl)
theorem r269_29 : Sd gd_mt M269 29 (i_ild 1 30) := sd_iload_n dX8_lies_29 rfl rfl
theorem r269_30 : Sd gd_mt M269 30 (i_cV 215 1 8 33) := sd_cV2 e215 cal215 q1783 q1785 (rfl : gd_cl 8 = some _) qs56 dX8_lies_30 rfl
theorem r269_33 : Sd gd_mt M269 33 (i_msk [false, false] (i_iret)) := sd_msk _ (sd_iret rfl dX8_lies_33)
def cl269_0 : List (Nat × gd_I) := [(0, i_ald 0 1), (1, i_psh (.int 0) 2), (2, i_putI 8 0 5), (5, i_ald 0 6), (6, i_ild 1 7), (7, i_psh (.int 0) 8), (8, i_psh (.int 5994) 11), (11, i_cS 233 3 14), (14, i_msk [true, true] (i_psh (.int 1) 15)), (15, i_psh (.int 1) 16), (16, i_cV 183 3 8 19), (19, i_msk [true, true] (i_ifne 24 22)), (22, i_psh (.int 0) 23), (23, i_iret), (24, i_ald 0 25), (25, i_cV 211 0 8 28), (28, i_msk [true, true] (i_ald 0 29)), (29, i_ild 1 30), (30, i_cV 215 1 8 33), (33, i_msk [false, false] (i_iret))]
theorem cs269_0 : ∀ q ∈ cl269_0, Sd gd_mt M269 q.1 q.2 := gd_ac r269_0 (gd_ac r269_1 (gd_ac r269_2 (gd_ac r269_5 (gd_ac r269_6 (gd_ac r269_7 (gd_ac r269_8 (gd_ac r269_11 (gd_ac r269_14 (gd_ac r269_15 (gd_ac r269_16 (gd_ac r269_19 (gd_ac r269_22 (gd_ac r269_23 (gd_ac r269_24 (gd_ac r269_25 (gd_ac r269_28 (gd_ac r269_29 (gd_ac r269_30 (gd_ac r269_33 (gd_an))))))))))))))))))))
def cd269 (pc : Nat) : gd_I := lkI cl269_0 pc
theorem cg269 : ∀ pc, Sd gd_mt M269 pc (cd269 pc) := sd_lk cs269_0
theorem r270_0 : Sd gd_mt M270 0 (i_ald 0 1) := sd_aload_n dX8_swells_0 rfl rfl
theorem r270_1 : Sd gd_mt M270 1 (i_psh (.int 0) 2) := sd_iconst dX8_swells_1 (by decide) rfl
theorem r270_2 : Sd gd_mt M270 2 (i_putI 8 0 5) := sd_putI ck8 (by decide) rfl (.inl q1454) (.inl rfl) dX8_swells_2 rfl
theorem r270_5 : Sd gd_mt M270 5 (i_ald 0 6) := sd_aload_n dX8_swells_5 rfl rfl
theorem r270_6 : Sd gd_mt M270 6 (i_ild 1 7) := sd_iload_n dX8_swells_6 rfl rfl
theorem r270_7 : Sd gd_mt M270 7 (i_psh (.int 1) 8) := sd_iconst dX8_swells_7 (by decide) rfl
theorem r270_8 : Sd gd_mt M270 8 (i_cV 237 2 8 11) := sd_cV2 e237 cal237 q1868 q1870 (rfl : gd_cl 8 = some _) qs71 dX8_swells_8 rfl
theorem r270_11 : Sd gd_mt M270 11 (i_msk [true, true, false, false] (i_ifne 16 14)) := sd_msk _ (sd_ifne dX8_swells_11 (by decide) rfl)
theorem r270_14 : Sd gd_mt M270 14 (i_psh (.int 0) 15) := sd_iconst dX8_swells_14 (by decide) rfl
theorem r270_15 : Sd gd_mt M270 15 (i_iret) := sd_iret rfl dX8_swells_15
theorem r270_16 : Sd gd_mt M270 16 (i_ald 0 17) := sd_aload_n dX8_swells_16 rfl rfl
theorem r270_17 : Sd gd_mt M270 17 (i_cV 211 0 8 20) := sd_cV2 e211 cal211 q1767 q1769 (rfl : gd_cl 8 = some _) qs52 dX8_swells_17 rfl
theorem r270_20 : Sd gd_mt M270 20 (i_msk [true, true, false, false] (i_ald 0 21)) := sd_msk _ (sd_aload_n dX8_swells_20 rfl rfl)
theorem r270_21 : Sd gd_mt M270 21 (i_ild 1 22) := sd_iload_n dX8_swells_21 rfl rfl
theorem r270_22 : Sd gd_mt M270 22 (i_cV 229 1 8 25) := sd_cV2 e229 cal229 q1837 q1839 (rfl : gd_cl 8 = some _) qs68 dX8_swells_22 rfl
theorem r270_25 : Sd gd_mt M270 25 (i_msk [true, true, false, false] (i_ist 2 26)) := sd_msk _ (sd_istore_n dX8_swells_25 rfl (by decide) rfl)
theorem r270_26 : Sd gd_mt M270 26 (i_psh (.int 999) 29) := sd_sipush dX8_swells_26 (by decide) rfl
theorem r270_29 : Sd gd_mt M270 29 (i_ald 0 30) := sd_aload_n dX8_swells_29 rfl rfl
theorem r270_30 : Sd gd_mt M270 30 (i_getR 8 39 33) := sd_getR ck8 (by decide) rfl (.inl q1493) dX8_swells_30 rfl
theorem r270_33 : Sd gd_mt M270 33 (i_psh (.int 42) 35) := sd_bipush dX8_swells_33 (by decide) rfl
theorem r270_35 : Sd gd_mt M270 35 (i_ild 1 36) := sd_iload_n dX8_swells_35 rfl rfl
theorem r270_36 : Sd gd_mt M270 36 (i_iadd 37) := sd_iadd dX8_swells_36 rfl
theorem r270_37 : Sd gd_mt M270 37 (i_aldI 31 38) := sd_iald dX8_swells_37 rfl
theorem r270_38 : Sd gd_mt M270 38 (i_isub 39) := sd_isub dX8_swells_38 rfl
theorem r270_39 : Sd gd_mt M270 39 (i_ist 3 40) := sd_istore_n dX8_swells_39 rfl (by decide) rfl
theorem r270_40 : Sd gd_mt M270 40 (i_ild 2 41) := sd_iload_n dX8_swells_40 rfl rfl
theorem r270_41 : Sd gd_mt M270 41 (i_ild 3 42) := sd_iload_n dX8_swells_41 rfl rfl
theorem r270_42 : Sd gd_mt M270 42 (i_icle 49 45) := sd_icle dX8_swells_42 (by decide) rfl
theorem r270_45 : Sd gd_mt M270 45 (i_ild 3 46) := sd_iload_n dX8_swells_45 rfl rfl
theorem r270_46 : Sd gd_mt M270 46 (i_goto 50) := sd_goto dX8_swells_46 (by decide)
theorem r270_49 : Sd gd_mt M270 49 (i_ild 2 50) := sd_iload_n dX8_swells_49 rfl rfl
theorem r270_50 : Sd gd_mt M270 50 (i_msk [false, false, false, false] (i_iret)) := sd_msk _ (sd_iret rfl dX8_swells_50)
def cl270_0 : List (Nat × gd_I) := [(0, i_ald 0 1), (1, i_psh (.int 0) 2), (2, i_putI 8 0 5), (5, i_ald 0 6), (6, i_ild 1 7), (7, i_psh (.int 1) 8), (8, i_cV 237 2 8 11), (11, i_msk [true, true, false, false] (i_ifne 16 14)), (14, i_psh (.int 0) 15), (15, i_iret), (16, i_ald 0 17), (17, i_cV 211 0 8 20), (20, i_msk [true, true, false, false] (i_ald 0 21)), (21, i_ild 1 22), (22, i_cV 229 1 8 25), (25, i_msk [true, true, false, false] (i_ist 2 26)), (26, i_psh (.int 999) 29), (29, i_ald 0 30), (30, i_getR 8 39 33), (33, i_psh (.int 42) 35), (35, i_ild 1 36), (36, i_iadd 37), (37, i_aldI 31 38), (38, i_isub 39), (39, i_ist 3 40), (40, i_ild 2 41), (41, i_ild 3 42), (42, i_icle 49 45), (45, i_ild 3 46), (46, i_goto 50), (49, i_ild 2 50), (50, i_msk [false, false, false, false] (i_iret))]
theorem cs270_0 : ∀ q ∈ cl270_0, Sd gd_mt M270 q.1 q.2 := gd_ac r270_0 (gd_ac r270_1 (gd_ac r270_2 (gd_ac r270_5 (gd_ac r270_6 (gd_ac r270_7 (gd_ac r270_8 (gd_ac r270_11 (gd_ac r270_14 (gd_ac r270_15 (gd_ac r270_16 (gd_ac r270_17 (gd_ac r270_20 (gd_ac r270_21 (gd_ac r270_22 (gd_ac r270_25 (gd_ac r270_26 (gd_ac r270_29 (gd_ac r270_30 (gd_ac r270_33 (gd_ac r270_35 (gd_ac r270_36 (gd_ac r270_37 (gd_ac r270_38 (gd_ac r270_39 (gd_ac r270_40 (gd_ac r270_41 (gd_ac r270_42 (gd_ac r270_45 (gd_ac r270_46 (gd_ac r270_49 (gd_ac r270_50 (gd_an))))))))))))))))))))))))))))))))
def cd270 (pc : Nat) : gd_I := lkI cl270_0 pc
theorem cg270 : ∀ pc, Sd gd_mt M270 pc (cd270 pc) := sd_lk cs270_0
theorem r271_0 : Sd gd_mt M271 0 (i_ald 0 1) := sd_aload_n dX8_heads_0 rfl rfl
theorem r271_1 : Sd gd_mt M271 1 (i_psh (.int 0) 2) := sd_iconst dX8_heads_1 (by decide) rfl
theorem r271_2 : Sd gd_mt M271 2 (i_putI 8 0 5) := sd_putI ck8 (by decide) rfl (.inl q1454) (.inl rfl) dX8_heads_2 rfl
theorem r271_5 : Sd gd_mt M271 5 (i_ald 0 6) := sd_aload_n dX8_heads_5 rfl rfl
theorem r271_6 : Sd gd_mt M271 6 (i_ild 1 7) := sd_iload_n dX8_heads_6 rfl rfl
theorem r271_7 : Sd gd_mt M271 7 (i_psh (.int 0) 8) := sd_iconst dX8_heads_7 (by decide) rfl
theorem r271_8 : Sd gd_mt M271 8 (i_psh (.int 1) 9) := sd_iconst dX8_heads_8 (by decide) rfl
theorem r271_9 : Sd gd_mt M271 9 (i_cS 233 3 12) := sd_cS2 e233 cal233 q1853 q1854 dX8_heads_9 rfl
theorem r271_12 : Sd gd_mt M271 12 (i_msk [true, true, false, false, false, false] (i_psh (.int 1) 13)) := sd_msk _ (sd_iconst dX8_heads_12 (by decide) rfl)
theorem r271_13 : Sd gd_mt M271 13 (i_psh (.int 1) 14) := sd_iconst dX8_heads_13 (by decide) rfl
theorem r271_14 : Sd gd_mt M271 14 (i_cV 183 3 8 17) := sd_cV2 e183 cal183 q1639 q1641 (rfl : gd_cl 8 = some _) qs30 dX8_heads_14 rfl
theorem r271_17 : Sd gd_mt M271 17 (i_msk [true, true, false, false, false, false] (i_ifne 22 20)) := sd_msk _ (sd_ifne dX8_heads_17 (by decide) rfl)
theorem r271_20 : Sd gd_mt M271 20 (i_psh (.int 0) 21) := sd_iconst dX8_heads_20 (by decide) rfl
theorem r271_21 : Sd gd_mt M271 21 (i_iret) := sd_iret rfl dX8_heads_21
theorem r271_22 : Sd gd_mt M271 22 (i_psh (.int 0) 23) := sd_iconst dX8_heads_22 (by decide) rfl
theorem r271_23 : Sd gd_mt M271 23 (i_ist 2 24) := sd_istore_n dX8_heads_23 rfl (by decide) rfl
theorem r271_24 : Sd gd_mt M271 24 (i_psh (.int 0) 25) := sd_iconst dX8_heads_24 (by decide) rfl
theorem r271_25 : Sd gd_mt M271 25 (i_ist 3 26) := sd_istore_n dX8_heads_25 rfl (by decide) rfl
theorem r271_26 : Sd gd_mt M271 26 (i_msk [true, true, true, true, false, false] (i_ild 3 27)) := sd_msk _ (sd_iload_n dX8_heads_26 rfl rfl)
theorem r271_27 : Sd gd_mt M271 27 (i_ald 0 28) := sd_aload_n dX8_heads_27 rfl rfl
theorem r271_28 : Sd gd_mt M271 28 (i_getI 8 21 31) := sd_getI ck8 (by decide) rfl (.inl q1475) dX8_heads_28 rfl
theorem r271_31 : Sd gd_mt M271 31 (i_icge 143 34) := sd_icge dX8_heads_31 (by decide) rfl
theorem r271_34 : Sd gd_mt M271 34 (i_ald 0 35) := sd_aload_n dX8_heads_34 rfl rfl
theorem r271_35 : Sd gd_mt M271 35 (i_getR 8 16 38) := sd_getR ck8 (by decide) rfl (.inl q1470) dX8_heads_35 rfl
theorem r271_38 : Sd gd_mt M271 38 (i_ild 3 39) := sd_iload_n dX8_heads_38 rfl rfl
theorem r271_39 : Sd gd_mt M271 39 (i_aldI 31 40) := sd_iald dX8_heads_39 rfl
theorem r271_40 : Sd gd_mt M271 40 (i_ifeq 47 43) := sd_ifeq dX8_heads_40 (by decide) rfl
theorem r271_43 : Sd gd_mt M271 43 (i_psh (.int 1) 44) := sd_iconst dX8_heads_43 (by decide) rfl
theorem r271_44 : Sd gd_mt M271 44 (i_goto 48) := sd_goto dX8_heads_44 (by decide)
theorem r271_47 : Sd gd_mt M271 47 (i_psh (.int 0) 48) := sd_iconst dX8_heads_47 (by decide) rfl
theorem r271_48 : Sd gd_mt M271 48 (i_msk [true, true, true, true, false, false] (i_ist 4 50)) := sd_msk _ (sd_istore dX8_heads_48 (by decide) rfl)
theorem r271_50 : Sd gd_mt M271 50 (i_psh (.int 0) 51) := sd_iconst dX8_heads_50 (by decide) rfl
theorem r271_51 : Sd gd_mt M271 51 (i_ist 5 53) := sd_istore dX8_heads_51 (by decide) rfl
theorem r271_53 : Sd gd_mt M271 53 (i_msk [true, true, true, true, true, true] (i_ild 5 55)) := sd_msk _ (sd_iload dX8_heads_53 rfl)
theorem r271_55 : Sd gd_mt M271 55 (i_ald 0 56) := sd_aload_n dX8_heads_55 rfl rfl
theorem r271_56 : Sd gd_mt M271 56 (i_getI 8 21 59) := sd_getI ck8 (by decide) rfl (.inl q1475) dX8_heads_56 rfl
theorem r271_59 : Sd gd_mt M271 59 (i_icge 106 62) := sd_icge dX8_heads_59 (by decide) rfl
theorem r271_62 : Sd gd_mt M271 62 (i_ald 0 63) := sd_aload_n dX8_heads_62 rfl rfl
theorem r271_63 : Sd gd_mt M271 63 (i_getR 8 16 66) := sd_getR ck8 (by decide) rfl (.inl q1470) dX8_heads_63 rfl
theorem r271_66 : Sd gd_mt M271 66 (i_ild 3 67) := sd_iload_n dX8_heads_66 rfl rfl
theorem r271_67 : Sd gd_mt M271 67 (i_aldI 31 68) := sd_iald dX8_heads_67 rfl
theorem r271_68 : Sd gd_mt M271 68 (i_ild 5 70) := sd_iload dX8_heads_68 rfl
theorem r271_70 : Sd gd_mt M271 70 (i_ishr 71) := sd_ishr dX8_heads_70 rfl
theorem r271_71 : Sd gd_mt M271 71 (i_psh (.int 1) 72) := sd_iconst dX8_heads_71 (by decide) rfl
theorem r271_72 : Sd gd_mt M271 72 (i_iand 73) := sd_iand dX8_heads_72 rfl
theorem r271_73 : Sd gd_mt M271 73 (i_psh (.int 1) 74) := sd_iconst dX8_heads_73 (by decide) rfl
theorem r271_74 : Sd gd_mt M271 74 (i_icne 100 77) := sd_icne dX8_heads_74 (by decide) rfl
theorem r271_77 : Sd gd_mt M271 77 (i_ald 0 78) := sd_aload_n dX8_heads_77 rfl rfl
def cl271_0 : List (Nat × gd_I) := [(0, i_ald 0 1), (1, i_psh (.int 0) 2), (2, i_putI 8 0 5), (5, i_ald 0 6), (6, i_ild 1 7), (7, i_psh (.int 0) 8), (8, i_psh (.int 1) 9), (9, i_cS 233 3 12), (12, i_msk [true, true, false, false, false, false] (i_psh (.int 1) 13)), (13, i_psh (.int 1) 14), (14, i_cV 183 3 8 17), (17, i_msk [true, true, false, false, false, false] (i_ifne 22 20)), (20, i_psh (.int 0) 21), (21, i_iret), (22, i_psh (.int 0) 23), (23, i_ist 2 24), (24, i_psh (.int 0) 25), (25, i_ist 3 26), (26, i_msk [true, true, true, true, false, false] (i_ild 3 27)), (27, i_ald 0 28), (28, i_getI 8 21 31), (31, i_icge 143 34), (34, i_ald 0 35), (35, i_getR 8 16 38), (38, i_ild 3 39), (39, i_aldI 31 40), (40, i_ifeq 47 43), (43, i_psh (.int 1) 44), (44, i_goto 48), (47, i_psh (.int 0) 48), (48, i_msk [true, true, true, true, false, false] (i_ist 4 50)), (50, i_psh (.int 0) 51), (51, i_ist 5 53), (53, i_msk [true, true, true, true, true, true] (i_ild 5 55)), (55, i_ald 0 56), (56, i_getI 8 21 59), (59, i_icge 106 62), (62, i_ald 0 63), (63, i_getR 8 16 66), (66, i_ild 3 67), (67, i_aldI 31 68), (68, i_ild 5 70), (70, i_ishr 71), (71, i_psh (.int 1) 72), (72, i_iand 73), (73, i_psh (.int 1) 74), (74, i_icne 100 77), (77, i_ald 0 78)]
theorem cs271_0 : ∀ q ∈ cl271_0, Sd gd_mt M271 q.1 q.2 := gd_ac r271_0 (gd_ac r271_1 (gd_ac r271_2 (gd_ac r271_5 (gd_ac r271_6 (gd_ac r271_7 (gd_ac r271_8 (gd_ac r271_9 (gd_ac r271_12 (gd_ac r271_13 (gd_ac r271_14 (gd_ac r271_17 (gd_ac r271_20 (gd_ac r271_21 (gd_ac r271_22 (gd_ac r271_23 (gd_ac r271_24 (gd_ac r271_25 (gd_ac r271_26 (gd_ac r271_27 (gd_ac r271_28 (gd_ac r271_31 (gd_ac r271_34 (gd_ac r271_35 (gd_ac r271_38 (gd_ac r271_39 (gd_ac r271_40 (gd_ac r271_43 (gd_ac r271_44 (gd_ac r271_47 (gd_ac r271_48 (gd_ac r271_50 (gd_ac r271_51 (gd_ac r271_53 (gd_ac r271_55 (gd_ac r271_56 (gd_ac r271_59 (gd_ac r271_62 (gd_ac r271_63 (gd_ac r271_66 (gd_ac r271_67 (gd_ac r271_68 (gd_ac r271_70 (gd_ac r271_71 (gd_ac r271_72 (gd_ac r271_73 (gd_ac r271_74 (gd_ac r271_77 (gd_an))))))))))))))))))))))))))))))))))))))))))))))))
theorem r271_78 : Sd gd_mt M271 78 (i_getR 8 38 81) := sd_getR ck8 (by decide) rfl (.inl q1492) dX8_heads_78 rfl
theorem r271_81 : Sd gd_mt M271 81 (i_psh (.int 0) 82) := sd_iconst dX8_heads_81 (by decide) rfl
theorem r271_82 : Sd gd_mt M271 82 (i_ild 5 84) := sd_iload dX8_heads_82 rfl
theorem r271_84 : Sd gd_mt M271 84 (i_iadd 85) := sd_iadd dX8_heads_84 rfl
theorem r271_85 : Sd gd_mt M271 85 (i_aldI 31 86) := sd_iald dX8_heads_85 rfl
theorem r271_86 : Sd gd_mt M271 86 (i_ald 0 87) := sd_aload_n dX8_heads_86 rfl rfl
theorem r271_87 : Sd gd_mt M271 87 (i_getR 8 38 90) := sd_getR ck8 (by decide) rfl (.inl q1492) dX8_heads_87 rfl
theorem r271_90 : Sd gd_mt M271 90 (i_psh (.int 0) 91) := sd_iconst dX8_heads_90 (by decide) rfl
theorem r271_91 : Sd gd_mt M271 91 (i_ild 3 92) := sd_iload_n dX8_heads_91 rfl rfl
theorem r271_92 : Sd gd_mt M271 92 (i_iadd 93) := sd_iadd dX8_heads_92 rfl
theorem r271_93 : Sd gd_mt M271 93 (i_aldI 31 94) := sd_iald dX8_heads_93 rfl
theorem r271_94 : Sd gd_mt M271 94 (i_icle 100 97) := sd_icle dX8_heads_94 (by decide) rfl
theorem r271_97 : Sd gd_mt M271 97 (i_psh (.int 0) 98) := sd_iconst dX8_heads_97 (by decide) rfl
theorem r271_98 : Sd gd_mt M271 98 (i_ist 4 100) := sd_istore dX8_heads_98 (by decide) rfl
theorem r271_100 : Sd gd_mt M271 100 (i_msk [true, true, true, true, true, true] (i_inc 5 1 103)) := sd_msk _ (sd_iinc dX8_heads_100 (by decide) (by decide) rfl)
theorem r271_103 : Sd gd_mt M271 103 (i_goto 53) := sd_goto dX8_heads_103 (by decide)
theorem r271_106 : Sd gd_mt M271 106 (i_ild 2 107) := sd_iload_n dX8_heads_106 rfl rfl
theorem r271_107 : Sd gd_mt M271 107 (i_ild 1 108) := sd_iload_n dX8_heads_107 rfl rfl
theorem r271_108 : Sd gd_mt M271 108 (i_ifne 123 111) := sd_ifne dX8_heads_108 (by decide) rfl
theorem r271_111 : Sd gd_mt M271 111 (i_ald 0 112) := sd_aload_n dX8_heads_111 rfl rfl
theorem r271_112 : Sd gd_mt M271 112 (i_getR 8 16 115) := sd_getR ck8 (by decide) rfl (.inl q1470) dX8_heads_112 rfl
theorem r271_115 : Sd gd_mt M271 115 (i_ild 3 116) := sd_iload_n dX8_heads_115 rfl rfl
theorem r271_116 : Sd gd_mt M271 116 (i_aldI 31 117) := sd_iald dX8_heads_116 rfl
theorem r271_117 : Sd gd_mt M271 117 (i_ifne 134 120) := sd_ifne dX8_heads_117 (by decide) rfl
theorem r271_120 : Sd gd_mt M271 120 (i_goto 128) := sd_goto dX8_heads_120 (by decide)
theorem r271_123 : Sd gd_mt M271 123 (i_ild 4 125) := sd_iload dX8_heads_123 rfl
theorem r271_125 : Sd gd_mt M271 125 (i_ifeq 134 128) := sd_ifeq dX8_heads_125 (by decide) rfl
theorem r271_128 : Sd gd_mt M271 128 (i_msk [true, true, false, true, false, false] (i_psh (.int 1) 129)) := sd_msk _ (sd_iconst dX8_heads_128 (by decide) rfl)
theorem r271_129 : Sd gd_mt M271 129 (i_ild 3 130) := sd_iload_n dX8_heads_129 rfl rfl
theorem r271_130 : Sd gd_mt M271 130 (i_ishl 131) := sd_ishl dX8_heads_130 rfl
theorem r271_131 : Sd gd_mt M271 131 (i_goto 135) := sd_goto dX8_heads_131 (by decide)
theorem r271_134 : Sd gd_mt M271 134 (i_msk [true, true, false, true, false, false] (i_psh (.int 0) 135)) := sd_msk _ (sd_iconst dX8_heads_134 (by decide) rfl)
theorem r271_135 : Sd gd_mt M271 135 (i_msk [true, true, false, true, false, false] (i_ior 136)) := sd_msk _ (sd_ior dX8_heads_135 rfl)
theorem r271_136 : Sd gd_mt M271 136 (i_ist 2 137) := sd_istore_n dX8_heads_136 rfl (by decide) rfl
theorem r271_137 : Sd gd_mt M271 137 (i_inc 3 1 140) := sd_iinc dX8_heads_137 (by decide) (by decide) rfl
theorem r271_140 : Sd gd_mt M271 140 (i_goto 26) := sd_goto dX8_heads_140 (by decide)
theorem r271_143 : Sd gd_mt M271 143 (i_ild 2 144) := sd_iload_n dX8_heads_143 rfl rfl
theorem r271_144 : Sd gd_mt M271 144 (i_iret) := sd_iret rfl dX8_heads_144
def cl271_1 : List (Nat × gd_I) := [(78, i_getR 8 38 81), (81, i_psh (.int 0) 82), (82, i_ild 5 84), (84, i_iadd 85), (85, i_aldI 31 86), (86, i_ald 0 87), (87, i_getR 8 38 90), (90, i_psh (.int 0) 91), (91, i_ild 3 92), (92, i_iadd 93), (93, i_aldI 31 94), (94, i_icle 100 97), (97, i_psh (.int 0) 98), (98, i_ist 4 100), (100, i_msk [true, true, true, true, true, true] (i_inc 5 1 103)), (103, i_goto 53), (106, i_ild 2 107), (107, i_ild 1 108), (108, i_ifne 123 111), (111, i_ald 0 112), (112, i_getR 8 16 115), (115, i_ild 3 116), (116, i_aldI 31 117), (117, i_ifne 134 120), (120, i_goto 128), (123, i_ild 4 125), (125, i_ifeq 134 128), (128, i_msk [true, true, false, true, false, false] (i_psh (.int 1) 129)), (129, i_ild 3 130), (130, i_ishl 131), (131, i_goto 135), (134, i_msk [true, true, false, true, false, false] (i_psh (.int 0) 135)), (135, i_msk [true, true, false, true, false, false] (i_ior 136)), (136, i_ist 2 137), (137, i_inc 3 1 140), (140, i_goto 26), (143, i_ild 2 144), (144, i_iret)]
theorem cs271_1 : ∀ q ∈ cl271_1, Sd gd_mt M271 q.1 q.2 := gd_ac r271_78 (gd_ac r271_81 (gd_ac r271_82 (gd_ac r271_84 (gd_ac r271_85 (gd_ac r271_86 (gd_ac r271_87 (gd_ac r271_90 (gd_ac r271_91 (gd_ac r271_92 (gd_ac r271_93 (gd_ac r271_94 (gd_ac r271_97 (gd_ac r271_98 (gd_ac r271_100 (gd_ac r271_103 (gd_ac r271_106 (gd_ac r271_107 (gd_ac r271_108 (gd_ac r271_111 (gd_ac r271_112 (gd_ac r271_115 (gd_ac r271_116 (gd_ac r271_117 (gd_ac r271_120 (gd_ac r271_123 (gd_ac r271_125 (gd_ac r271_128 (gd_ac r271_129 (gd_ac r271_130 (gd_ac r271_131 (gd_ac r271_134 (gd_ac r271_135 (gd_ac r271_136 (gd_ac r271_137 (gd_ac r271_140 (gd_ac r271_143 (gd_ac r271_144 (gd_an))))))))))))))))))))))))))))))))))))))
def cd271 (pc : Nat) : gd_I := if pc < 78 then lkI cl271_0 pc else lkI cl271_1 pc
theorem cg271 : ∀ pc, Sd gd_mt M271 pc (cd271 pc) := by
  intro pc
  unfold cd271
  by_cases h0 : pc < 78
  · rw [if_pos h0]; exact sd_lk cs271_0 pc
  rw [if_neg h0]
  exact sd_lk cs271_1 pc
theorem r272_0 : Sd gd_mt M272 0 (i_ald 0 1) := sd_aload_n dX8_driest_0 rfl rfl
theorem r272_1 : Sd gd_mt M272 1 (i_psh (.int 0) 2) := sd_iconst dX8_driest_1 (by decide) rfl
theorem r272_2 : Sd gd_mt M272 2 (i_putI 8 0 5) := sd_putI ck8 (by decide) rfl (.inl q1454) (.inl rfl) dX8_driest_2 rfl
theorem r272_5 : Sd gd_mt M272 5 (i_ald 0 6) := sd_aload_n dX8_driest_5 rfl rfl
theorem r272_6 : Sd gd_mt M272 6 (i_ild 1 7) := sd_iload_n dX8_driest_6 rfl rfl
theorem r272_7 : Sd gd_mt M272 7 (i_psh (.int 0) 8) := sd_iconst dX8_driest_7 (by decide) rfl
theorem r272_8 : Sd gd_mt M272 8 (i_psh (.int 1) 9) := sd_iconst dX8_driest_8 (by decide) rfl
theorem r272_9 : Sd gd_mt M272 9 (i_cS 233 3 12) := sd_cS2 e233 cal233 q1853 q1854 dX8_driest_9 rfl
theorem r272_12 : Sd gd_mt M272 12 (i_msk [true, true, false, false] (i_psh (.int 1) 13)) := sd_msk _ (sd_iconst dX8_driest_12 (by decide) rfl)
theorem r272_13 : Sd gd_mt M272 13 (i_psh (.int 1) 14) := sd_iconst dX8_driest_13 (by decide) rfl
theorem r272_14 : Sd gd_mt M272 14 (i_cV 183 3 8 17) := sd_cV2 e183 cal183 q1639 q1641 (rfl : gd_cl 8 = some _) qs30 dX8_driest_14 rfl
theorem r272_17 : Sd gd_mt M272 17 (i_msk [true, true, false, false] (i_ifne 22 20)) := sd_msk _ (sd_ifne dX8_driest_17 (by decide) rfl)
theorem r272_20 : Sd gd_mt M272 20 (i_psh (.int 0) 21) := sd_iconst dX8_driest_20 (by decide) rfl
theorem r272_21 : Sd gd_mt M272 21 (i_iret) := sd_iret rfl dX8_driest_21
theorem r272_22 : Sd gd_mt M272 22 (i_psh (.int 0) 23) := sd_iconst dX8_driest_22 (by decide) rfl
theorem r272_23 : Sd gd_mt M272 23 (i_ist 2 24) := sd_istore_n dX8_driest_23 rfl (by decide) rfl
theorem r272_24 : Sd gd_mt M272 24 (i_psh (.int 1) 25) := sd_iconst dX8_driest_24 (by decide) rfl
theorem r272_25 : Sd gd_mt M272 25 (i_ist 3 26) := sd_istore_n dX8_driest_25 rfl (by decide) rfl
theorem r272_26 : Sd gd_mt M272 26 (i_msk [true, true, true, true] (i_ild 3 27)) := sd_msk _ (sd_iload_n dX8_driest_26 rfl rfl)
theorem r272_27 : Sd gd_mt M272 27 (i_psh (.int 12) 29) := sd_bipush dX8_driest_27 (by decide) rfl
theorem r272_29 : Sd gd_mt M272 29 (i_icge 59 32) := sd_icge dX8_driest_29 (by decide) rfl
theorem r272_32 : Sd gd_mt M272 32 (i_ald 0 33) := sd_aload_n dX8_driest_32 rfl rfl
theorem r272_33 : Sd gd_mt M272 33 (i_getR 8 17 36) := sd_getR ck8 (by decide) rfl (.inl q1471) dX8_driest_33 rfl
theorem r272_36 : Sd gd_mt M272 36 (i_ild 3 37) := sd_iload_n dX8_driest_36 rfl rfl
theorem r272_37 : Sd gd_mt M272 37 (i_aldI 31 38) := sd_iald dX8_driest_37 rfl
theorem r272_38 : Sd gd_mt M272 38 (i_ald 0 39) := sd_aload_n dX8_driest_38 rfl rfl
theorem r272_39 : Sd gd_mt M272 39 (i_getR 8 17 42) := sd_getR ck8 (by decide) rfl (.inl q1471) dX8_driest_39 rfl
theorem r272_42 : Sd gd_mt M272 42 (i_ild 2 43) := sd_iload_n dX8_driest_42 rfl rfl
theorem r272_43 : Sd gd_mt M272 43 (i_aldI 31 44) := sd_iald dX8_driest_43 rfl
theorem r272_44 : Sd gd_mt M272 44 (i_icge 51 47) := sd_icge dX8_driest_44 (by decide) rfl
theorem r272_47 : Sd gd_mt M272 47 (i_ild 3 48) := sd_iload_n dX8_driest_47 rfl rfl
theorem r272_48 : Sd gd_mt M272 48 (i_goto 52) := sd_goto dX8_driest_48 (by decide)
theorem r272_51 : Sd gd_mt M272 51 (i_ild 2 52) := sd_iload_n dX8_driest_51 rfl rfl
theorem r272_52 : Sd gd_mt M272 52 (i_msk [true, true, false, true] (i_ist 2 53)) := sd_msk _ (sd_istore_n dX8_driest_52 rfl (by decide) rfl)
theorem r272_53 : Sd gd_mt M272 53 (i_inc 3 1 56) := sd_iinc dX8_driest_53 (by decide) (by decide) rfl
theorem r272_56 : Sd gd_mt M272 56 (i_goto 26) := sd_goto dX8_driest_56 (by decide)
theorem r272_59 : Sd gd_mt M272 59 (i_ild 1 60) := sd_iload_n dX8_driest_59 rfl rfl
theorem r272_60 : Sd gd_mt M272 60 (i_ifne 67 63) := sd_ifne dX8_driest_60 (by decide) rfl
theorem r272_63 : Sd gd_mt M272 63 (i_ild 2 64) := sd_iload_n dX8_driest_63 rfl rfl
theorem r272_64 : Sd gd_mt M272 64 (i_goto 73) := sd_goto dX8_driest_64 (by decide)
theorem r272_67 : Sd gd_mt M272 67 (i_ald 0 68) := sd_aload_n dX8_driest_67 rfl rfl
theorem r272_68 : Sd gd_mt M272 68 (i_getR 8 17 71) := sd_getR ck8 (by decide) rfl (.inl q1471) dX8_driest_68 rfl
theorem r272_71 : Sd gd_mt M272 71 (i_ild 2 72) := sd_iload_n dX8_driest_71 rfl rfl
theorem r272_72 : Sd gd_mt M272 72 (i_aldI 31 73) := sd_iald dX8_driest_72 rfl
theorem r272_73 : Sd gd_mt M272 73 (i_msk [false, false, false, false] (i_iret)) := sd_msk _ (sd_iret rfl dX8_driest_73)
def cl272_0 : List (Nat × gd_I) := [(0, i_ald 0 1), (1, i_psh (.int 0) 2), (2, i_putI 8 0 5), (5, i_ald 0 6), (6, i_ild 1 7), (7, i_psh (.int 0) 8), (8, i_psh (.int 1) 9), (9, i_cS 233 3 12), (12, i_msk [true, true, false, false] (i_psh (.int 1) 13)), (13, i_psh (.int 1) 14), (14, i_cV 183 3 8 17), (17, i_msk [true, true, false, false] (i_ifne 22 20)), (20, i_psh (.int 0) 21), (21, i_iret), (22, i_psh (.int 0) 23), (23, i_ist 2 24), (24, i_psh (.int 1) 25), (25, i_ist 3 26), (26, i_msk [true, true, true, true] (i_ild 3 27)), (27, i_psh (.int 12) 29), (29, i_icge 59 32), (32, i_ald 0 33), (33, i_getR 8 17 36), (36, i_ild 3 37), (37, i_aldI 31 38), (38, i_ald 0 39), (39, i_getR 8 17 42), (42, i_ild 2 43), (43, i_aldI 31 44), (44, i_icge 51 47), (47, i_ild 3 48), (48, i_goto 52), (51, i_ild 2 52), (52, i_msk [true, true, false, true] (i_ist 2 53)), (53, i_inc 3 1 56), (56, i_goto 26), (59, i_ild 1 60), (60, i_ifne 67 63), (63, i_ild 2 64), (64, i_goto 73), (67, i_ald 0 68), (68, i_getR 8 17 71), (71, i_ild 2 72), (72, i_aldI 31 73), (73, i_msk [false, false, false, false] (i_iret))]
theorem cs272_0 : ∀ q ∈ cl272_0, Sd gd_mt M272 q.1 q.2 := gd_ac r272_0 (gd_ac r272_1 (gd_ac r272_2 (gd_ac r272_5 (gd_ac r272_6 (gd_ac r272_7 (gd_ac r272_8 (gd_ac r272_9 (gd_ac r272_12 (gd_ac r272_13 (gd_ac r272_14 (gd_ac r272_17 (gd_ac r272_20 (gd_ac r272_21 (gd_ac r272_22 (gd_ac r272_23 (gd_ac r272_24 (gd_ac r272_25 (gd_ac r272_26 (gd_ac r272_27 (gd_ac r272_29 (gd_ac r272_32 (gd_ac r272_33 (gd_ac r272_36 (gd_ac r272_37 (gd_ac r272_38 (gd_ac r272_39 (gd_ac r272_42 (gd_ac r272_43 (gd_ac r272_44 (gd_ac r272_47 (gd_ac r272_48 (gd_ac r272_51 (gd_ac r272_52 (gd_ac r272_53 (gd_ac r272_56 (gd_ac r272_59 (gd_ac r272_60 (gd_ac r272_63 (gd_ac r272_64 (gd_ac r272_67 (gd_ac r272_68 (gd_ac r272_71 (gd_ac r272_72 (gd_ac r272_73 (gd_an)))))))))))))))))))))))))))))))))))))))))))))
def cd272 (pc : Nat) : gd_I := lkI cl272_0 pc
theorem cg272 : ∀ pc, Sd gd_mt M272 pc (cd272 pc) := sd_lk cs272_0
theorem r273_0 : Sd gd_mt M273 0 (i_ald 0 1) := sd_aload_n dX8_decade_0 rfl rfl
theorem r273_1 : Sd gd_mt M273 1 (i_psh (.int 0) 2) := sd_iconst dX8_decade_1 (by decide) rfl
theorem r273_2 : Sd gd_mt M273 2 (i_putI 8 0 5) := sd_putI ck8 (by decide) rfl (.inl q1454) (.inl rfl) dX8_decade_2 rfl
theorem r273_5 : Sd gd_mt M273 5 (i_ald 0 6) := sd_aload_n dX8_decade_5 rfl rfl
theorem r273_6 : Sd gd_mt M273 6 (i_ild 2 7) := sd_iload_n dX8_decade_6 rfl rfl
theorem r273_7 : Sd gd_mt M273 7 (i_ild 3 8) := sd_iload_n dX8_decade_7 rfl rfl
theorem r273_8 : Sd gd_mt M273 8 (i_cS 274 2 11) := sd_cS2 e274 cal274 q2013 q2014 dX8_decade_8 rfl
theorem r273_11 : Sd gd_mt M273 11 (i_msk [true, true, true, true, true] (i_ifeq 28 14)) := sd_msk _ (sd_ifeq dX8_decade_11 (by decide) rfl)
theorem r273_14 : Sd gd_mt M273 14 (i_ild 4 16) := sd_iload dX8_decade_14 rfl
theorem r273_16 : Sd gd_mt M273 16 (i_psh (.int 0) 17) := sd_iconst dX8_decade_16 (by decide) rfl
theorem r273_17 : Sd gd_mt M273 17 (i_psh (.int 3) 18) := sd_iconst dX8_decade_17 (by decide) rfl
theorem r273_18 : Sd gd_mt M273 18 (i_cS 233 3 21) := sd_cS2 e233 cal233 q1853 q1854 dX8_decade_18 rfl
theorem r273_21 : Sd gd_mt M273 21 (i_msk [true, true, true, true, true] (i_ifeq 28 24)) := sd_msk _ (sd_ifeq dX8_decade_21 (by decide) rfl)
theorem r273_24 : Sd gd_mt M273 24 (i_psh (.int 1) 25) := sd_iconst dX8_decade_24 (by decide) rfl
theorem r273_25 : Sd gd_mt M273 25 (i_goto 29) := sd_goto dX8_decade_25 (by decide)
theorem r273_28 : Sd gd_mt M273 28 (i_msk [true, true, true, true, true] (i_psh (.int 0) 29)) := sd_msk _ (sd_iconst dX8_decade_28 (by decide) rfl)
theorem r273_29 : Sd gd_mt M273 29 (i_msk [true, true, true, true, true] (i_psh (.int 1) 30)) := sd_msk _ (sd_iconst dX8_decade_29 (by decide) rfl)
theorem r273_30 : Sd gd_mt M273 30 (i_psh (.int 1) 31) := sd_iconst dX8_decade_30 (by decide) rfl
theorem r273_31 : Sd gd_mt M273 31 (i_cV 183 3 8 34) := sd_cV2 e183 cal183 q1639 q1641 (rfl : gd_cl 8 = some _) qs30 dX8_decade_31 rfl
theorem r273_34 : Sd gd_mt M273 34 (i_msk [true, true, true, true, true] (i_ifne 39 37)) := sd_msk _ (sd_ifne dX8_decade_34 (by decide) rfl)
theorem r273_37 : Sd gd_mt M273 37 (i_psh (.int 0) 38) := sd_iconst dX8_decade_37 (by decide) rfl
theorem r273_38 : Sd gd_mt M273 38 (i_iret) := sd_iret rfl dX8_decade_38
theorem r273_39 : Sd gd_mt M273 39 (i_ald 0 40) := sd_aload_n dX8_decade_39 rfl rfl
theorem r273_40 : Sd gd_mt M273 40 (i_ild 1 41) := sd_iload_n dX8_decade_40 rfl rfl
theorem r273_41 : Sd gd_mt M273 41 (i_ild 2 42) := sd_iload_n dX8_decade_41 rfl rfl
theorem r273_42 : Sd gd_mt M273 42 (i_ild 3 43) := sd_iload_n dX8_decade_42 rfl rfl
theorem r273_43 : Sd gd_mt M273 43 (i_cV 275 3 8 46) := sd_cV2 e275 cal275 q2016 q2018 (rfl : gd_cl 8 = some _) qs81 dX8_decade_43 rfl
theorem r273_46 : Sd gd_mt M273 46 (i_msk [true, false, false, false, true] (i_ild 4 48)) := sd_msk _ (sd_iload dX8_decade_46 rfl)
theorem r273_48 : Sd gd_mt M273 48 (i_ifne 62 51) := sd_ifne dX8_decade_48 (by decide) rfl
theorem r273_51 : Sd gd_mt M273 51 (i_ald 0 52) := sd_aload_n dX8_decade_51 rfl rfl
theorem r273_52 : Sd gd_mt M273 52 (i_ald 0 53) := sd_aload_n dX8_decade_52 rfl rfl
theorem r273_53 : Sd gd_mt M273 53 (i_getI 8 20 56) := sd_getI ck8 (by decide) rfl (.inl q1474) dX8_decade_53 rfl
theorem r273_56 : Sd gd_mt M273 56 (i_cV 216 1 8 59) := sd_cV2 e216 cal216 q1787 q1789 (rfl : gd_cl 8 = some _) qs57 dX8_decade_56 rfl
theorem r273_59 : Sd gd_mt M273 59 (i_msk [false, false, false, false, false] (i_goto 92)) := sd_msk _ (sd_goto dX8_decade_59 (by decide))
theorem r273_62 : Sd gd_mt M273 62 (i_ild 4 64) := sd_iload dX8_decade_62 rfl
theorem r273_64 : Sd gd_mt M273 64 (i_psh (.int 1) 65) := sd_iconst dX8_decade_64 (by decide) rfl
theorem r273_65 : Sd gd_mt M273 65 (i_icne 75 68) := sd_icne dX8_decade_65 (by decide) rfl
theorem r273_68 : Sd gd_mt M273 68 (i_ald 0 69) := sd_aload_n dX8_decade_68 rfl rfl
theorem r273_69 : Sd gd_mt M273 69 (i_cV 243 0 8 72) := sd_cV2 e243 cal243 q1892 q1894 (rfl : gd_cl 8 = some _) qs73 dX8_decade_69 rfl
theorem r273_72 : Sd gd_mt M273 72 (i_msk [false, false, false, false, false] (i_goto 92)) := sd_msk _ (sd_goto dX8_decade_72 (by decide))
theorem r273_75 : Sd gd_mt M273 75 (i_ild 4 77) := sd_iload dX8_decade_75 rfl
theorem r273_77 : Sd gd_mt M273 77 (i_psh (.int 2) 78) := sd_iconst dX8_decade_77 (by decide) rfl
theorem r273_78 : Sd gd_mt M273 78 (i_icne 88 81) := sd_icne dX8_decade_78 (by decide) rfl
theorem r273_81 : Sd gd_mt M273 81 (i_ald 0 82) := sd_aload_n dX8_decade_81 rfl rfl
theorem r273_82 : Sd gd_mt M273 82 (i_cV 235 0 8 85) := sd_cV2 e235 cal235 q1860 q1862 (rfl : gd_cl 8 = some _) qs70 dX8_decade_82 rfl
theorem r273_85 : Sd gd_mt M273 85 (i_msk [false, false, false, false, false] (i_goto 92)) := sd_msk _ (sd_goto dX8_decade_85 (by decide))
theorem r273_88 : Sd gd_mt M273 88 (i_ald 0 89) := sd_aload_n dX8_decade_88 rfl rfl
theorem r273_89 : Sd gd_mt M273 89 (i_getI 8 54 92) := sd_getI ck8 (by decide) rfl (.inl q1508) dX8_decade_89 rfl
def cl273_0 : List (Nat × gd_I) := [(0, i_ald 0 1), (1, i_psh (.int 0) 2), (2, i_putI 8 0 5), (5, i_ald 0 6), (6, i_ild 2 7), (7, i_ild 3 8), (8, i_cS 274 2 11), (11, i_msk [true, true, true, true, true] (i_ifeq 28 14)), (14, i_ild 4 16), (16, i_psh (.int 0) 17), (17, i_psh (.int 3) 18), (18, i_cS 233 3 21), (21, i_msk [true, true, true, true, true] (i_ifeq 28 24)), (24, i_psh (.int 1) 25), (25, i_goto 29), (28, i_msk [true, true, true, true, true] (i_psh (.int 0) 29)), (29, i_msk [true, true, true, true, true] (i_psh (.int 1) 30)), (30, i_psh (.int 1) 31), (31, i_cV 183 3 8 34), (34, i_msk [true, true, true, true, true] (i_ifne 39 37)), (37, i_psh (.int 0) 38), (38, i_iret), (39, i_ald 0 40), (40, i_ild 1 41), (41, i_ild 2 42), (42, i_ild 3 43), (43, i_cV 275 3 8 46), (46, i_msk [true, false, false, false, true] (i_ild 4 48)), (48, i_ifne 62 51), (51, i_ald 0 52), (52, i_ald 0 53), (53, i_getI 8 20 56), (56, i_cV 216 1 8 59), (59, i_msk [false, false, false, false, false] (i_goto 92)), (62, i_ild 4 64), (64, i_psh (.int 1) 65), (65, i_icne 75 68), (68, i_ald 0 69), (69, i_cV 243 0 8 72), (72, i_msk [false, false, false, false, false] (i_goto 92)), (75, i_ild 4 77), (77, i_psh (.int 2) 78), (78, i_icne 88 81), (81, i_ald 0 82), (82, i_cV 235 0 8 85), (85, i_msk [false, false, false, false, false] (i_goto 92)), (88, i_ald 0 89), (89, i_getI 8 54 92)]
theorem cs273_0 : ∀ q ∈ cl273_0, Sd gd_mt M273 q.1 q.2 := gd_ac r273_0 (gd_ac r273_1 (gd_ac r273_2 (gd_ac r273_5 (gd_ac r273_6 (gd_ac r273_7 (gd_ac r273_8 (gd_ac r273_11 (gd_ac r273_14 (gd_ac r273_16 (gd_ac r273_17 (gd_ac r273_18 (gd_ac r273_21 (gd_ac r273_24 (gd_ac r273_25 (gd_ac r273_28 (gd_ac r273_29 (gd_ac r273_30 (gd_ac r273_31 (gd_ac r273_34 (gd_ac r273_37 (gd_ac r273_38 (gd_ac r273_39 (gd_ac r273_40 (gd_ac r273_41 (gd_ac r273_42 (gd_ac r273_43 (gd_ac r273_46 (gd_ac r273_48 (gd_ac r273_51 (gd_ac r273_52 (gd_ac r273_53 (gd_ac r273_56 (gd_ac r273_59 (gd_ac r273_62 (gd_ac r273_64 (gd_ac r273_65 (gd_ac r273_68 (gd_ac r273_69 (gd_ac r273_72 (gd_ac r273_75 (gd_ac r273_77 (gd_ac r273_78 (gd_ac r273_81 (gd_ac r273_82 (gd_ac r273_85 (gd_ac r273_88 (gd_ac r273_89 (gd_an))))))))))))))))))))))))))))))))))))))))))))))))
theorem r273_92 : Sd gd_mt M273 92 (i_msk [false, false, false, false, false] (i_iret)) := sd_msk _ (sd_iret rfl dX8_decade_92)
def cl273_1 : List (Nat × gd_I) := [(92, i_msk [false, false, false, false, false] (i_iret))]
theorem cs273_1 : ∀ q ∈ cl273_1, Sd gd_mt M273 q.1 q.2 := gd_ac r273_92 (gd_an)
def cd273 (pc : Nat) : gd_I := if pc < 92 then lkI cl273_0 pc else lkI cl273_1 pc
theorem cg273 : ∀ pc, Sd gd_mt M273 pc (cd273 pc) := by
  intro pc
  unfold cd273
  by_cases h0 : pc < 92
  · rw [if_pos h0]; exact sd_lk cs273_0 pc
  rw [if_neg h0]
  exact sd_lk cs273_1 pc
theorem r274_0 : Sd gd_mt M274 0 (i_ild 0 1) := sd_iload_n dX8_isDecade_0 rfl rfl
theorem r274_1 : Sd gd_mt M274 1 (i_iflt 25 4) := sd_iflt dX8_isDecade_1 (by decide) rfl
theorem r274_4 : Sd gd_mt M274 4 (i_ild 0 5) := sd_iload_n dX8_isDecade_4 rfl rfl
theorem r274_5 : Sd gd_mt M274 5 (i_psh (.int 16) 7) := sd_bipush dX8_isDecade_5 (by decide) rfl
theorem r274_7 : Sd gd_mt M274 7 (i_icgt 25 10) := sd_icgt dX8_isDecade_7 (by decide) rfl
theorem r274_10 : Sd gd_mt M274 10 (i_ild 1 11) := sd_iload_n dX8_isDecade_10 rfl rfl
theorem r274_11 : Sd gd_mt M274 11 (i_psh (.int 1) 12) := sd_iconst dX8_isDecade_11 (by decide) rfl
theorem r274_12 : Sd gd_mt M274 12 (i_iclt 25 15) := sd_iclt dX8_isDecade_12 (by decide) rfl
theorem r274_15 : Sd gd_mt M274 15 (i_ild 1 16) := sd_iload_n dX8_isDecade_15 rfl rfl
theorem r274_16 : Sd gd_mt M274 16 (i_psh (.int 96) 18) := sd_bipush dX8_isDecade_16 (by decide) rfl
theorem r274_18 : Sd gd_mt M274 18 (i_icgt 25 21) := sd_icgt dX8_isDecade_18 (by decide) rfl
theorem r274_21 : Sd gd_mt M274 21 (i_psh (.int 1) 22) := sd_iconst dX8_isDecade_21 (by decide) rfl
theorem r274_22 : Sd gd_mt M274 22 (i_goto 26) := sd_goto dX8_isDecade_22 (by decide)
theorem r274_25 : Sd gd_mt M274 25 (i_msk [false, false] (i_psh (.int 0) 26)) := sd_msk _ (sd_iconst dX8_isDecade_25 (by decide) rfl)
theorem r274_26 : Sd gd_mt M274 26 (i_msk [false, false] (i_zret)) := sd_msk _ (sd_zret rfl dX8_isDecade_26)
def cl274_0 : List (Nat × gd_I) := [(0, i_ild 0 1), (1, i_iflt 25 4), (4, i_ild 0 5), (5, i_psh (.int 16) 7), (7, i_icgt 25 10), (10, i_ild 1 11), (11, i_psh (.int 1) 12), (12, i_iclt 25 15), (15, i_ild 1 16), (16, i_psh (.int 96) 18), (18, i_icgt 25 21), (21, i_psh (.int 1) 22), (22, i_goto 26), (25, i_msk [false, false] (i_psh (.int 0) 26)), (26, i_msk [false, false] (i_zret))]
theorem cs274_0 : ∀ q ∈ cl274_0, Sd gd_mt M274 q.1 q.2 := gd_ac r274_0 (gd_ac r274_1 (gd_ac r274_4 (gd_ac r274_5 (gd_ac r274_7 (gd_ac r274_10 (gd_ac r274_11 (gd_ac r274_12 (gd_ac r274_15 (gd_ac r274_16 (gd_ac r274_18 (gd_ac r274_21 (gd_ac r274_22 (gd_ac r274_25 (gd_ac r274_26 (gd_an)))))))))))))))
def cd274 (pc : Nat) : gd_I := lkI cl274_0 pc
theorem cg274 : ∀ pc, Sd gd_mt M274 pc (cd274 pc) := sd_lk cs274_0
theorem r275_0 : Sd gd_mt M275 0 (i_ald 0 1) := sd_aload_n dX8_decadeGoes_0 rfl rfl
theorem r275_1 : Sd gd_mt M275 1 (i_cV 211 0 8 4) := sd_cV2 e211 cal211 q1767 q1769 (rfl : gd_cl 8 = some _) qs52 dX8_decadeGoes_1 rfl
theorem r275_4 : Sd gd_mt M275 4 (i_msk [true, true, true, true, false, false] (i_ald 0 5)) := sd_msk _ (sd_aload_n dX8_decadeGoes_4 rfl rfl)
theorem r275_5 : Sd gd_mt M275 5 (i_ild 1 6) := sd_iload_n dX8_decadeGoes_5 rfl rfl
theorem r275_6 : Sd gd_mt M275 6 (i_putI 8 53 9) := sd_putI ck8 (by decide) rfl (.inl q1507) (.inl rfl) dX8_decadeGoes_6 rfl
theorem r275_9 : Sd gd_mt M275 9 (i_ald 0 10) := sd_aload_n dX8_decadeGoes_9 rfl rfl
theorem r275_10 : Sd gd_mt M275 10 (i_psh (.int 0) 11) := sd_iconst dX8_decadeGoes_10 (by decide) rfl
theorem r275_11 : Sd gd_mt M275 11 (i_putI 8 54 14) := sd_putI ck8 (by decide) rfl (.inl q1508) (.inl rfl) dX8_decadeGoes_11 rfl
theorem r275_14 : Sd gd_mt M275 14 (i_psh (.int 0) 15) := sd_iconst dX8_decadeGoes_14 (by decide) rfl
theorem r275_15 : Sd gd_mt M275 15 (i_ist 4 17) := sd_istore dX8_decadeGoes_15 (by decide) rfl
theorem r275_17 : Sd gd_mt M275 17 (i_msk [true, false, true, true, true, false] (i_ild 4 19)) := sd_msk _ (sd_iload dX8_decadeGoes_17 rfl)
theorem r275_19 : Sd gd_mt M275 19 (i_ild 3 20) := sd_iload_n dX8_decadeGoes_19 rfl rfl
theorem r275_20 : Sd gd_mt M275 20 (i_icge 118 23) := sd_icge dX8_decadeGoes_20 (by decide) rfl
theorem r275_23 : Sd gd_mt M275 23 (i_ald 0 24) := sd_aload_n dX8_decadeGoes_23 rfl rfl
theorem r275_24 : Sd gd_mt M275 24 (i_getI 8 21 27) := sd_getI ck8 (by decide) rfl (.inl q1475) dX8_decadeGoes_24 rfl
theorem r275_27 : Sd gd_mt M275 27 (i_ifle 108 30) := sd_ifle dX8_decadeGoes_27 (by decide) rfl
theorem r275_30 : Sd gd_mt M275 30 (i_ald 0 31) := sd_aload_n dX8_decadeGoes_30 rfl rfl
theorem r275_31 : Sd gd_mt M275 31 (i_dup 32) := sd_dup dX8_decadeGoes_31 rfl
theorem r275_32 : Sd gd_mt M275 32 (i_getI 8 54 35) := sd_getI ck8 (by decide) rfl (.inl q1508) dX8_decadeGoes_32 rfl
theorem r275_35 : Sd gd_mt M275 35 (i_ald 0 36) := sd_aload_n dX8_decadeGoes_35 rfl rfl
theorem r275_36 : Sd gd_mt M275 36 (i_ald 0 37) := sd_aload_n dX8_decadeGoes_36 rfl rfl
theorem r275_37 : Sd gd_mt M275 37 (i_ald 0 38) := sd_aload_n dX8_decadeGoes_37 rfl rfl
theorem r275_38 : Sd gd_mt M275 38 (i_getI 8 21 41) := sd_getI ck8 (by decide) rfl (.inl q1475) dX8_decadeGoes_38 rfl
theorem r275_41 : Sd gd_mt M275 41 (i_cV 276 1 8 44) := sd_cV2 e276 cal276 q2020 q2022 (rfl : gd_cl 8 = some _) qs82 dX8_decadeGoes_41 rfl
theorem r275_44 : Sd gd_mt M275 44 (i_msk [true, false, true, true, true, false] (i_cV 214 1 8 47)) := sd_msk _ (sd_cV2 e214 cal214 q1779 q1781 (rfl : gd_cl 8 = some _) qs55 dX8_decadeGoes_44 rfl)
theorem r275_47 : Sd gd_mt M275 47 (i_msk [true, false, true, true, true, false] (i_ifeq 54 50)) := sd_msk _ (sd_ifeq dX8_decadeGoes_47 (by decide) rfl)
theorem r275_50 : Sd gd_mt M275 50 (i_psh (.int 1) 51) := sd_iconst dX8_decadeGoes_50 (by decide) rfl
theorem r275_51 : Sd gd_mt M275 51 (i_goto 55) := sd_goto dX8_decadeGoes_51 (by decide)
theorem r275_54 : Sd gd_mt M275 54 (i_psh (.int 0) 55) := sd_iconst dX8_decadeGoes_54 (by decide) rfl
theorem r275_55 : Sd gd_mt M275 55 (i_msk [true, false, true, true, true, false] (i_iadd 56)) := sd_msk _ (sd_iadd dX8_decadeGoes_55 rfl)
theorem r275_56 : Sd gd_mt M275 56 (i_putI 8 54 59) := sd_putI ck8 (by decide) rfl (.inl q1508) (.inl rfl) dX8_decadeGoes_56 rfl
theorem r275_59 : Sd gd_mt M275 59 (i_ald 0 60) := sd_aload_n dX8_decadeGoes_59 rfl rfl
theorem r275_60 : Sd gd_mt M275 60 (i_ald 0 61) := sd_aload_n dX8_decadeGoes_60 rfl rfl
theorem r275_61 : Sd gd_mt M275 61 (i_getI 8 21 64) := sd_getI ck8 (by decide) rfl (.inl q1475) dX8_decadeGoes_61 rfl
theorem r275_64 : Sd gd_mt M275 64 (i_cV 276 1 8 67) := sd_cV2 e276 cal276 q2020 q2022 (rfl : gd_cl 8 = some _) qs82 dX8_decadeGoes_64 rfl
theorem r275_67 : Sd gd_mt M275 67 (i_msk [true, false, true, true, true, false] (i_ist 5 69)) := sd_msk _ (sd_istore dX8_decadeGoes_67 (by decide) rfl)
theorem r275_69 : Sd gd_mt M275 69 (i_ald 0 70) := sd_aload_n dX8_decadeGoes_69 rfl rfl
theorem r275_70 : Sd gd_mt M275 70 (i_psh (.int 7) 72) := sd_bipush dX8_decadeGoes_70 (by decide) rfl
theorem r275_72 : Sd gd_mt M275 72 (i_ild 5 74) := sd_iload dX8_decadeGoes_72 rfl
theorem r275_74 : Sd gd_mt M275 74 (i_iadd 75) := sd_iadd dX8_decadeGoes_74 rfl
theorem r275_75 : Sd gd_mt M275 75 (i_ald 0 76) := sd_aload_n dX8_decadeGoes_75 rfl rfl
theorem r275_76 : Sd gd_mt M275 76 (i_psh (.int 10) 78) := sd_bipush dX8_decadeGoes_76 (by decide) rfl
theorem r275_78 : Sd gd_mt M275 78 (i_cV 276 1 8 81) := sd_cV2 e276 cal276 q2020 q2022 (rfl : gd_cl 8 = some _) qs82 dX8_decadeGoes_78 rfl
theorem r275_81 : Sd gd_mt M275 81 (i_msk [true, false, true, true, true, false] (i_cV 217 2 8 84)) := sd_msk _ (sd_cV2 e217 cal217 q1791 q1793 (rfl : gd_cl 8 = some _) qs58 dX8_decadeGoes_81 rfl)
theorem r275_84 : Sd gd_mt M275 84 (i_msk [true, false, true, true, true, false] (i_pop 85)) := sd_msk _ (sd_pop dX8_decadeGoes_84 rfl)
theorem r275_85 : Sd gd_mt M275 85 (i_ald 0 86) := sd_aload_n dX8_decadeGoes_85 rfl rfl
theorem r275_86 : Sd gd_mt M275 86 (i_psh (.int 16) 88) := sd_bipush dX8_decadeGoes_86 (by decide) rfl
theorem r275_88 : Sd gd_mt M275 88 (i_cV 276 1 8 91) := sd_cV2 e276 cal276 q2020 q2022 (rfl : gd_cl 8 = some _) qs82 dX8_decadeGoes_88 rfl
def cl275_0 : List (Nat × gd_I) := [(0, i_ald 0 1), (1, i_cV 211 0 8 4), (4, i_msk [true, true, true, true, false, false] (i_ald 0 5)), (5, i_ild 1 6), (6, i_putI 8 53 9), (9, i_ald 0 10), (10, i_psh (.int 0) 11), (11, i_putI 8 54 14), (14, i_psh (.int 0) 15), (15, i_ist 4 17), (17, i_msk [true, false, true, true, true, false] (i_ild 4 19)), (19, i_ild 3 20), (20, i_icge 118 23), (23, i_ald 0 24), (24, i_getI 8 21 27), (27, i_ifle 108 30), (30, i_ald 0 31), (31, i_dup 32), (32, i_getI 8 54 35), (35, i_ald 0 36), (36, i_ald 0 37), (37, i_ald 0 38), (38, i_getI 8 21 41), (41, i_cV 276 1 8 44), (44, i_msk [true, false, true, true, true, false] (i_cV 214 1 8 47)), (47, i_msk [true, false, true, true, true, false] (i_ifeq 54 50)), (50, i_psh (.int 1) 51), (51, i_goto 55), (54, i_psh (.int 0) 55), (55, i_msk [true, false, true, true, true, false] (i_iadd 56)), (56, i_putI 8 54 59), (59, i_ald 0 60), (60, i_ald 0 61), (61, i_getI 8 21 64), (64, i_cV 276 1 8 67), (67, i_msk [true, false, true, true, true, false] (i_ist 5 69)), (69, i_ald 0 70), (70, i_psh (.int 7) 72), (72, i_ild 5 74), (74, i_iadd 75), (75, i_ald 0 76), (76, i_psh (.int 10) 78), (78, i_cV 276 1 8 81), (81, i_msk [true, false, true, true, true, false] (i_cV 217 2 8 84)), (84, i_msk [true, false, true, true, true, false] (i_pop 85)), (85, i_ald 0 86), (86, i_psh (.int 16) 88), (88, i_cV 276 1 8 91)]
theorem cs275_0 : ∀ q ∈ cl275_0, Sd gd_mt M275 q.1 q.2 := gd_ac r275_0 (gd_ac r275_1 (gd_ac r275_4 (gd_ac r275_5 (gd_ac r275_6 (gd_ac r275_9 (gd_ac r275_10 (gd_ac r275_11 (gd_ac r275_14 (gd_ac r275_15 (gd_ac r275_17 (gd_ac r275_19 (gd_ac r275_20 (gd_ac r275_23 (gd_ac r275_24 (gd_ac r275_27 (gd_ac r275_30 (gd_ac r275_31 (gd_ac r275_32 (gd_ac r275_35 (gd_ac r275_36 (gd_ac r275_37 (gd_ac r275_38 (gd_ac r275_41 (gd_ac r275_44 (gd_ac r275_47 (gd_ac r275_50 (gd_ac r275_51 (gd_ac r275_54 (gd_ac r275_55 (gd_ac r275_56 (gd_ac r275_59 (gd_ac r275_60 (gd_ac r275_61 (gd_ac r275_64 (gd_ac r275_67 (gd_ac r275_69 (gd_ac r275_70 (gd_ac r275_72 (gd_ac r275_74 (gd_ac r275_75 (gd_ac r275_76 (gd_ac r275_78 (gd_ac r275_81 (gd_ac r275_84 (gd_ac r275_85 (gd_ac r275_86 (gd_ac r275_88 (gd_an))))))))))))))))))))))))))))))))))))))))))))))))
theorem r275_91 : Sd gd_mt M275 91 (i_msk [true, false, true, true, true, false] (i_ild 2 92)) := sd_msk _ (sd_iload_n dX8_decadeGoes_91 rfl rfl)
theorem r275_92 : Sd gd_mt M275 92 (i_icge 108 95) := sd_icge dX8_decadeGoes_92 (by decide) rfl
theorem r275_95 : Sd gd_mt M275 95 (i_ald 0 96) := sd_aload_n dX8_decadeGoes_95 rfl rfl
theorem r275_96 : Sd gd_mt M275 96 (i_psh (.int 48) 98) := sd_bipush dX8_decadeGoes_96 (by decide) rfl
theorem r275_98 : Sd gd_mt M275 98 (i_ald 0 99) := sd_aload_n dX8_decadeGoes_98 rfl rfl
theorem r275_99 : Sd gd_mt M275 99 (i_psh (.int 10) 101) := sd_bipush dX8_decadeGoes_99 (by decide) rfl
theorem r275_101 : Sd gd_mt M275 101 (i_cV 276 1 8 104) := sd_cV2 e276 cal276 q2020 q2022 (rfl : gd_cl 8 = some _) qs82 dX8_decadeGoes_101 rfl
theorem r275_104 : Sd gd_mt M275 104 (i_msk [true, false, true, true, true, false] (i_cV 217 2 8 107)) := sd_msk _ (sd_cV2 e217 cal217 q1791 q1793 (rfl : gd_cl 8 = some _) qs58 dX8_decadeGoes_104 rfl)
theorem r275_107 : Sd gd_mt M275 107 (i_msk [true, false, true, true, true, false] (i_pop 108)) := sd_msk _ (sd_pop dX8_decadeGoes_107 rfl)
theorem r275_108 : Sd gd_mt M275 108 (i_msk [true, false, true, true, true, false] (i_ald 0 109)) := sd_msk _ (sd_aload_n dX8_decadeGoes_108 rfl rfl)
theorem r275_109 : Sd gd_mt M275 109 (i_cV 219 0 8 112) := sd_cV2 e219 cal219 q1799 q1801 (rfl : gd_cl 8 = some _) qs60 dX8_decadeGoes_109 rfl
theorem r275_112 : Sd gd_mt M275 112 (i_msk [true, false, true, true, true, false] (i_inc 4 1 115)) := sd_msk _ (sd_iinc dX8_decadeGoes_112 (by decide) (by decide) rfl)
theorem r275_115 : Sd gd_mt M275 115 (i_goto 17) := sd_goto dX8_decadeGoes_115 (by decide)
theorem r275_118 : Sd gd_mt M275 118 (i_ret) := sd_ret rfl dX8_decadeGoes_118
def cl275_1 : List (Nat × gd_I) := [(91, i_msk [true, false, true, true, true, false] (i_ild 2 92)), (92, i_icge 108 95), (95, i_ald 0 96), (96, i_psh (.int 48) 98), (98, i_ald 0 99), (99, i_psh (.int 10) 101), (101, i_cV 276 1 8 104), (104, i_msk [true, false, true, true, true, false] (i_cV 217 2 8 107)), (107, i_msk [true, false, true, true, true, false] (i_pop 108)), (108, i_msk [true, false, true, true, true, false] (i_ald 0 109)), (109, i_cV 219 0 8 112), (112, i_msk [true, false, true, true, true, false] (i_inc 4 1 115)), (115, i_goto 17), (118, i_ret)]
theorem cs275_1 : ∀ q ∈ cl275_1, Sd gd_mt M275 q.1 q.2 := gd_ac r275_91 (gd_ac r275_92 (gd_ac r275_95 (gd_ac r275_96 (gd_ac r275_98 (gd_ac r275_99 (gd_ac r275_101 (gd_ac r275_104 (gd_ac r275_107 (gd_ac r275_108 (gd_ac r275_109 (gd_ac r275_112 (gd_ac r275_115 (gd_ac r275_118 (gd_an))))))))))))))
def cd275 (pc : Nat) : gd_I := if pc < 91 then lkI cl275_0 pc else lkI cl275_1 pc
theorem cg275 : ∀ pc, Sd gd_mt M275 pc (cd275 pc) := by
  intro pc
  unfold cd275
  by_cases h0 : pc < 91
  · rw [if_pos h0]; exact sd_lk cs275_0 pc
  rw [if_neg h0]
  exact sd_lk cs275_1 pc
theorem r276_0 : Sd gd_mt M276 0 (i_ald 0 1) := sd_aload_n dX8_draws_0 rfl rfl
theorem r276_1 : Sd gd_mt M276 1 (i_ald 0 2) := sd_aload_n dX8_draws_1 rfl rfl
theorem r276_2 : Sd gd_mt M276 2 (i_getI 8 53 5) := sd_getI ck8 (by decide) rfl (.inl q1507) dX8_draws_2 rfl
theorem r276_5 : Sd gd_mt M276 5 (i_psh (.int 1103515245) 8) := sd_ldcw dX8_draws_5 q2024 rfl
theorem r276_8 : Sd gd_mt M276 8 (i_imul 9) := sd_imul dX8_draws_8 rfl
theorem r276_9 : Sd gd_mt M276 9 (i_psh (.int 12345) 12) := sd_sipush dX8_draws_9 (by decide) rfl
theorem r276_12 : Sd gd_mt M276 12 (i_iadd 13) := sd_iadd dX8_draws_12 rfl
theorem r276_13 : Sd gd_mt M276 13 (i_putI 8 53 16) := sd_putI ck8 (by decide) rfl (.inl q1507) (.inl rfl) dX8_draws_13 rfl
theorem r276_16 : Sd gd_mt M276 16 (i_ald 0 17) := sd_aload_n dX8_draws_16 rfl rfl
theorem r276_17 : Sd gd_mt M276 17 (i_getI 8 53 20) := sd_getI ck8 (by decide) rfl (.inl q1507) dX8_draws_17 rfl
theorem r276_20 : Sd gd_mt M276 20 (i_psh (.int 16) 22) := sd_bipush dX8_draws_20 (by decide) rfl
theorem r276_22 : Sd gd_mt M276 22 (i_ishr 23) := sd_ishr dX8_draws_22 rfl
theorem r276_23 : Sd gd_mt M276 23 (i_psh (.int 32767) 26) := sd_sipush dX8_draws_23 (by decide) rfl
theorem r276_26 : Sd gd_mt M276 26 (i_iand 27) := sd_iand dX8_draws_26 rfl
theorem r276_27 : Sd gd_mt M276 27 (i_ild 1 28) := sd_iload_n dX8_draws_27 rfl rfl
theorem r276_28 : Sd gd_mt M276 28 (i_irem 29) := sd_irem dX8_draws_28 rfl
theorem r276_29 : Sd gd_mt M276 29 (i_iret) := sd_iret rfl dX8_draws_29
def cl276_0 : List (Nat × gd_I) := [(0, i_ald 0 1), (1, i_ald 0 2), (2, i_getI 8 53 5), (5, i_psh (.int 1103515245) 8), (8, i_imul 9), (9, i_psh (.int 12345) 12), (12, i_iadd 13), (13, i_putI 8 53 16), (16, i_ald 0 17), (17, i_getI 8 53 20), (20, i_psh (.int 16) 22), (22, i_ishr 23), (23, i_psh (.int 32767) 26), (26, i_iand 27), (27, i_ild 1 28), (28, i_irem 29), (29, i_iret)]
theorem cs276_0 : ∀ q ∈ cl276_0, Sd gd_mt M276 q.1 q.2 := gd_ac r276_0 (gd_ac r276_1 (gd_ac r276_2 (gd_ac r276_5 (gd_ac r276_8 (gd_ac r276_9 (gd_ac r276_12 (gd_ac r276_13 (gd_ac r276_16 (gd_ac r276_17 (gd_ac r276_20 (gd_ac r276_22 (gd_ac r276_23 (gd_ac r276_26 (gd_ac r276_27 (gd_ac r276_28 (gd_ac r276_29 (gd_an)))))))))))))))))
def cd276 (pc : Nat) : gd_I := lkI cl276_0 pc
theorem cg276 : ∀ pc, Sd gd_mt M276 pc (cd276 pc) := sd_lk cs276_0
theorem r277_0 : Sd gd_mt M277 0 (i_ald 0 1) := sd_aload_n dX8_span_0 rfl rfl
theorem r277_1 : Sd gd_mt M277 1 (i_psh (.int 0) 2) := sd_iconst dX8_span_1 (by decide) rfl
theorem r277_2 : Sd gd_mt M277 2 (i_putI 8 0 5) := sd_putI ck8 (by decide) rfl (.inl q1454) (.inl rfl) dX8_span_2 rfl
theorem r277_5 : Sd gd_mt M277 5 (i_ald 0 6) := sd_aload_n dX8_span_5 rfl rfl
theorem r277_6 : Sd gd_mt M277 6 (i_ild 2 7) := sd_iload_n dX8_span_6 rfl rfl
theorem r277_7 : Sd gd_mt M277 7 (i_psh (.int 1) 8) := sd_iconst dX8_span_7 (by decide) rfl
theorem r277_8 : Sd gd_mt M277 8 (i_psh (.int 20) 10) := sd_bipush dX8_span_8 (by decide) rfl
theorem r277_10 : Sd gd_mt M277 10 (i_cS 233 3 13) := sd_cS2 e233 cal233 q1853 q1854 dX8_span_10 rfl
theorem r277_13 : Sd gd_mt M277 13 (i_msk [true, true, true, true, true, true, true, false, false, false, false, false] (i_ifeq 54 16)) := sd_msk _ (sd_ifeq dX8_span_13 (by decide) rfl)
theorem r277_16 : Sd gd_mt M277 16 (i_ild 3 17) := sd_iload_n dX8_span_16 rfl rfl
theorem r277_17 : Sd gd_mt M277 17 (i_ild 4 19) := sd_iload dX8_span_17 rfl
theorem r277_19 : Sd gd_mt M277 19 (i_cS 274 2 22) := sd_cS2 e274 cal274 q2013 q2014 dX8_span_19 rfl
theorem r277_22 : Sd gd_mt M277 22 (i_msk [true, true, true, true, true, true, true, false, false, false, false, false] (i_ifeq 54 25)) := sd_msk _ (sd_ifeq dX8_span_22 (by decide) rfl)
theorem r277_25 : Sd gd_mt M277 25 (i_ild 5 27) := sd_iload dX8_span_25 rfl
theorem r277_27 : Sd gd_mt M277 27 (i_psh (.int 0) 28) := sd_iconst dX8_span_27 (by decide) rfl
theorem r277_28 : Sd gd_mt M277 28 (i_psh (.int 2) 29) := sd_iconst dX8_span_28 (by decide) rfl
theorem r277_29 : Sd gd_mt M277 29 (i_cS 233 3 32) := sd_cS2 e233 cal233 q1853 q1854 dX8_span_29 rfl
theorem r277_32 : Sd gd_mt M277 32 (i_msk [true, true, true, true, true, true, true, false, false, false, false, false] (i_ifeq 54 35)) := sd_msk _ (sd_ifeq dX8_span_32 (by decide) rfl)
theorem r277_35 : Sd gd_mt M277 35 (i_ild 6 37) := sd_iload dX8_span_35 rfl
theorem r277_37 : Sd gd_mt M277 37 (i_psh (.int 0) 38) := sd_iconst dX8_span_37 (by decide) rfl
theorem r277_38 : Sd gd_mt M277 38 (i_ald 0 39) := sd_aload_n dX8_span_38 rfl rfl
theorem r277_39 : Sd gd_mt M277 39 (i_getI 8 21 42) := sd_getI ck8 (by decide) rfl (.inl q1475) dX8_span_39 rfl
theorem r277_42 : Sd gd_mt M277 42 (i_psh (.int 1) 43) := sd_iconst dX8_span_42 (by decide) rfl
theorem r277_43 : Sd gd_mt M277 43 (i_isub 44) := sd_isub dX8_span_43 rfl
theorem r277_44 : Sd gd_mt M277 44 (i_cS 233 3 47) := sd_cS2 e233 cal233 q1853 q1854 dX8_span_44 rfl
theorem r277_47 : Sd gd_mt M277 47 (i_msk [true, true, true, true, true, true, true, false, false, false, false, false] (i_ifeq 54 50)) := sd_msk _ (sd_ifeq dX8_span_47 (by decide) rfl)
theorem r277_50 : Sd gd_mt M277 50 (i_psh (.int 1) 51) := sd_iconst dX8_span_50 (by decide) rfl
theorem r277_51 : Sd gd_mt M277 51 (i_goto 55) := sd_goto dX8_span_51 (by decide)
theorem r277_54 : Sd gd_mt M277 54 (i_msk [true, true, true, true, true, true, true, false, false, false, false, false] (i_psh (.int 0) 55)) := sd_msk _ (sd_iconst dX8_span_54 (by decide) rfl)
theorem r277_55 : Sd gd_mt M277 55 (i_msk [true, true, true, true, true, true, true, false, false, false, false, false] (i_psh (.int 1) 56)) := sd_msk _ (sd_iconst dX8_span_55 (by decide) rfl)
theorem r277_56 : Sd gd_mt M277 56 (i_psh (.int 1) 57) := sd_iconst dX8_span_56 (by decide) rfl
theorem r277_57 : Sd gd_mt M277 57 (i_cV 183 3 8 60) := sd_cV2 e183 cal183 q1639 q1641 (rfl : gd_cl 8 = some _) qs30 dX8_span_57 rfl
theorem r277_60 : Sd gd_mt M277 60 (i_msk [true, true, true, true, true, true, true, false, false, false, false, false] (i_ifne 65 63)) := sd_msk _ (sd_ifne dX8_span_60 (by decide) rfl)
theorem r277_63 : Sd gd_mt M277 63 (i_psh (.int 0) 64) := sd_iconst dX8_span_63 (by decide) rfl
theorem r277_64 : Sd gd_mt M277 64 (i_iret) := sd_iret rfl dX8_span_64
theorem r277_65 : Sd gd_mt M277 65 (i_psh (.int (-1)) 66) := sd_iconst dX8_span_65 (by decide) rfl
theorem r277_66 : Sd gd_mt M277 66 (i_ist 7 68) := sd_istore dX8_span_66 (by decide) rfl
theorem r277_68 : Sd gd_mt M277 68 (i_psh (.int 0) 69) := sd_iconst dX8_span_68 (by decide) rfl
theorem r277_69 : Sd gd_mt M277 69 (i_ist 8 71) := sd_istore dX8_span_69 (by decide) rfl
theorem r277_71 : Sd gd_mt M277 71 (i_psh (.int 0) 72) := sd_iconst dX8_span_71 (by decide) rfl
theorem r277_72 : Sd gd_mt M277 72 (i_ist 9 74) := sd_istore dX8_span_72 (by decide) rfl
theorem r277_74 : Sd gd_mt M277 74 (i_psh (.int 0) 75) := sd_iconst dX8_span_74 (by decide) rfl
theorem r277_75 : Sd gd_mt M277 75 (i_ist 10 77) := sd_istore dX8_span_75 (by decide) rfl
theorem r277_77 : Sd gd_mt M277 77 (i_msk [true, true, true, true, true, true, true, true, true, true, true, false] (i_ild 10 79)) := sd_msk _ (sd_iload dX8_span_77 rfl)
theorem r277_79 : Sd gd_mt M277 79 (i_ild 2 80) := sd_iload_n dX8_span_79 rfl rfl
theorem r277_80 : Sd gd_mt M277 80 (i_icge 167 83) := sd_icge dX8_span_80 (by decide) rfl
theorem r277_83 : Sd gd_mt M277 83 (i_ald 0 84) := sd_aload_n dX8_span_83 rfl rfl
theorem r277_84 : Sd gd_mt M277 84 (i_ild 1 85) := sd_iload_n dX8_span_84 rfl rfl
def cl277_0 : List (Nat × gd_I) := [(0, i_ald 0 1), (1, i_psh (.int 0) 2), (2, i_putI 8 0 5), (5, i_ald 0 6), (6, i_ild 2 7), (7, i_psh (.int 1) 8), (8, i_psh (.int 20) 10), (10, i_cS 233 3 13), (13, i_msk [true, true, true, true, true, true, true, false, false, false, false, false] (i_ifeq 54 16)), (16, i_ild 3 17), (17, i_ild 4 19), (19, i_cS 274 2 22), (22, i_msk [true, true, true, true, true, true, true, false, false, false, false, false] (i_ifeq 54 25)), (25, i_ild 5 27), (27, i_psh (.int 0) 28), (28, i_psh (.int 2) 29), (29, i_cS 233 3 32), (32, i_msk [true, true, true, true, true, true, true, false, false, false, false, false] (i_ifeq 54 35)), (35, i_ild 6 37), (37, i_psh (.int 0) 38), (38, i_ald 0 39), (39, i_getI 8 21 42), (42, i_psh (.int 1) 43), (43, i_isub 44), (44, i_cS 233 3 47), (47, i_msk [true, true, true, true, true, true, true, false, false, false, false, false] (i_ifeq 54 50)), (50, i_psh (.int 1) 51), (51, i_goto 55), (54, i_msk [true, true, true, true, true, true, true, false, false, false, false, false] (i_psh (.int 0) 55)), (55, i_msk [true, true, true, true, true, true, true, false, false, false, false, false] (i_psh (.int 1) 56)), (56, i_psh (.int 1) 57), (57, i_cV 183 3 8 60), (60, i_msk [true, true, true, true, true, true, true, false, false, false, false, false] (i_ifne 65 63)), (63, i_psh (.int 0) 64), (64, i_iret), (65, i_psh (.int (-1)) 66), (66, i_ist 7 68), (68, i_psh (.int 0) 69), (69, i_ist 8 71), (71, i_psh (.int 0) 72), (72, i_ist 9 74), (74, i_psh (.int 0) 75), (75, i_ist 10 77), (77, i_msk [true, true, true, true, true, true, true, true, true, true, true, false] (i_ild 10 79)), (79, i_ild 2 80), (80, i_icge 167 83), (83, i_ald 0 84), (84, i_ild 1 85)]
theorem cs277_0 : ∀ q ∈ cl277_0, Sd gd_mt M277 q.1 q.2 := gd_ac r277_0 (gd_ac r277_1 (gd_ac r277_2 (gd_ac r277_5 (gd_ac r277_6 (gd_ac r277_7 (gd_ac r277_8 (gd_ac r277_10 (gd_ac r277_13 (gd_ac r277_16 (gd_ac r277_17 (gd_ac r277_19 (gd_ac r277_22 (gd_ac r277_25 (gd_ac r277_27 (gd_ac r277_28 (gd_ac r277_29 (gd_ac r277_32 (gd_ac r277_35 (gd_ac r277_37 (gd_ac r277_38 (gd_ac r277_39 (gd_ac r277_42 (gd_ac r277_43 (gd_ac r277_44 (gd_ac r277_47 (gd_ac r277_50 (gd_ac r277_51 (gd_ac r277_54 (gd_ac r277_55 (gd_ac r277_56 (gd_ac r277_57 (gd_ac r277_60 (gd_ac r277_63 (gd_ac r277_64 (gd_ac r277_65 (gd_ac r277_66 (gd_ac r277_68 (gd_ac r277_69 (gd_ac r277_71 (gd_ac r277_72 (gd_ac r277_74 (gd_ac r277_75 (gd_ac r277_77 (gd_ac r277_79 (gd_ac r277_80 (gd_ac r277_83 (gd_ac r277_84 (gd_an))))))))))))))))))))))))))))))))))))))))))))))))
theorem r277_85 : Sd gd_mt M277 85 (i_ild 10 87) := sd_iload dX8_span_85 rfl
theorem r277_87 : Sd gd_mt M277 87 (i_iadd 88) := sd_iadd dX8_span_87 rfl
theorem r277_88 : Sd gd_mt M277 88 (i_ild 3 89) := sd_iload_n dX8_span_88 rfl rfl
theorem r277_89 : Sd gd_mt M277 89 (i_ild 4 91) := sd_iload dX8_span_89 rfl
theorem r277_91 : Sd gd_mt M277 91 (i_cV 275 3 8 94) := sd_cV2 e275 cal275 q2016 q2018 (rfl : gd_cl 8 = some _) qs81 dX8_span_91 rfl
theorem r277_94 : Sd gd_mt M277 94 (i_msk [true, true, true, true, true, true, true, true, true, true, true, false] (i_ald 0 95)) := sd_msk _ (sd_aload_n dX8_span_94 rfl rfl)
theorem r277_95 : Sd gd_mt M277 95 (i_ald 0 96) := sd_aload_n dX8_span_95 rfl rfl
theorem r277_96 : Sd gd_mt M277 96 (i_getI 8 20 99) := sd_getI ck8 (by decide) rfl (.inl q1474) dX8_span_96 rfl
theorem r277_99 : Sd gd_mt M277 99 (i_cV 216 1 8 102) := sd_cV2 e216 cal216 q1787 q1789 (rfl : gd_cl 8 = some _) qs57 dX8_span_99 rfl
theorem r277_102 : Sd gd_mt M277 102 (i_msk [true, true, true, true, true, true, true, true, true, true, true, false] (i_ist 11 104)) := sd_msk _ (sd_istore dX8_span_102 (by decide) rfl)
theorem r277_104 : Sd gd_mt M277 104 (i_ild 7 106) := sd_iload dX8_span_104 rfl
theorem r277_106 : Sd gd_mt M277 106 (i_psh (.int (-1)) 107) := sd_iconst dX8_span_106 (by decide) rfl
theorem r277_107 : Sd gd_mt M277 107 (i_iceq 117 110) := sd_iceq dX8_span_107 (by decide) rfl
theorem r277_110 : Sd gd_mt M277 110 (i_ild 11 112) := sd_iload dX8_span_110 rfl
theorem r277_112 : Sd gd_mt M277 112 (i_ild 7 114) := sd_iload dX8_span_112 rfl
theorem r277_114 : Sd gd_mt M277 114 (i_icge 122 117) := sd_icge dX8_span_114 (by decide) rfl
theorem r277_117 : Sd gd_mt M277 117 (i_msk [true, true, true, true, true, true, true, false, true, true, true, true] (i_ild 11 119)) := sd_msk _ (sd_iload dX8_span_117 rfl)
theorem r277_119 : Sd gd_mt M277 119 (i_goto 124) := sd_goto dX8_span_119 (by decide)
theorem r277_122 : Sd gd_mt M277 122 (i_ild 7 124) := sd_iload dX8_span_122 rfl
theorem r277_124 : Sd gd_mt M277 124 (i_msk [true, true, true, true, true, true, true, false, true, true, true, true] (i_ist 7 126)) := sd_msk _ (sd_istore dX8_span_124 (by decide) rfl)
theorem r277_126 : Sd gd_mt M277 126 (i_ild 11 128) := sd_iload dX8_span_126 rfl
theorem r277_128 : Sd gd_mt M277 128 (i_ild 8 130) := sd_iload dX8_span_128 rfl
theorem r277_130 : Sd gd_mt M277 130 (i_icle 138 133) := sd_icle dX8_span_130 (by decide) rfl
theorem r277_133 : Sd gd_mt M277 133 (i_ild 11 135) := sd_iload dX8_span_133 rfl
theorem r277_135 : Sd gd_mt M277 135 (i_goto 140) := sd_goto dX8_span_135 (by decide)
theorem r277_138 : Sd gd_mt M277 138 (i_ild 8 140) := sd_iload dX8_span_138 rfl
theorem r277_140 : Sd gd_mt M277 140 (i_msk [true, true, true, true, true, true, true, true, false, true, true, false] (i_ist 8 142)) := sd_msk _ (sd_istore dX8_span_140 (by decide) rfl)
theorem r277_142 : Sd gd_mt M277 142 (i_ild 9 144) := sd_iload dX8_span_142 rfl
theorem r277_144 : Sd gd_mt M277 144 (i_ald 0 145) := sd_aload_n dX8_span_144 rfl rfl
theorem r277_145 : Sd gd_mt M277 145 (i_ild 6 147) := sd_iload dX8_span_145 rfl
theorem r277_147 : Sd gd_mt M277 147 (i_cV 222 1 8 150) := sd_cV2 e222 cal222 q1811 q1813 (rfl : gd_cl 8 = some _) qs63 dX8_span_147 rfl
theorem r277_150 : Sd gd_mt M277 150 (i_msk [true, true, true, true, true, true, true, true, true, false, true, false] (i_ifle 157 153)) := sd_msk _ (sd_ifle dX8_span_150 (by decide) rfl)
theorem r277_153 : Sd gd_mt M277 153 (i_psh (.int 1) 154) := sd_iconst dX8_span_153 (by decide) rfl
theorem r277_154 : Sd gd_mt M277 154 (i_goto 158) := sd_goto dX8_span_154 (by decide)
theorem r277_157 : Sd gd_mt M277 157 (i_psh (.int 0) 158) := sd_iconst dX8_span_157 (by decide) rfl
theorem r277_158 : Sd gd_mt M277 158 (i_msk [true, true, true, true, true, true, true, true, true, false, true, false] (i_iadd 159)) := sd_msk _ (sd_iadd dX8_span_158 rfl)
theorem r277_159 : Sd gd_mt M277 159 (i_ist 9 161) := sd_istore dX8_span_159 (by decide) rfl
theorem r277_161 : Sd gd_mt M277 161 (i_inc 10 1 164) := sd_iinc dX8_span_161 (by decide) (by decide) rfl
theorem r277_164 : Sd gd_mt M277 164 (i_goto 77) := sd_goto dX8_span_164 (by decide)
theorem r277_167 : Sd gd_mt M277 167 (i_ild 5 169) := sd_iload dX8_span_167 rfl
theorem r277_169 : Sd gd_mt M277 169 (i_ifne 177 172) := sd_ifne dX8_span_169 (by decide) rfl
theorem r277_172 : Sd gd_mt M277 172 (i_ild 7 174) := sd_iload dX8_span_172 rfl
theorem r277_174 : Sd gd_mt M277 174 (i_goto 190) := sd_goto dX8_span_174 (by decide)
theorem r277_177 : Sd gd_mt M277 177 (i_ild 5 179) := sd_iload dX8_span_177 rfl
theorem r277_179 : Sd gd_mt M277 179 (i_psh (.int 1) 180) := sd_iconst dX8_span_179 (by decide) rfl
theorem r277_180 : Sd gd_mt M277 180 (i_icne 188 183) := sd_icne dX8_span_180 (by decide) rfl
theorem r277_183 : Sd gd_mt M277 183 (i_ild 8 185) := sd_iload dX8_span_183 rfl
theorem r277_185 : Sd gd_mt M277 185 (i_goto 190) := sd_goto dX8_span_185 (by decide)
def cl277_1 : List (Nat × gd_I) := [(85, i_ild 10 87), (87, i_iadd 88), (88, i_ild 3 89), (89, i_ild 4 91), (91, i_cV 275 3 8 94), (94, i_msk [true, true, true, true, true, true, true, true, true, true, true, false] (i_ald 0 95)), (95, i_ald 0 96), (96, i_getI 8 20 99), (99, i_cV 216 1 8 102), (102, i_msk [true, true, true, true, true, true, true, true, true, true, true, false] (i_ist 11 104)), (104, i_ild 7 106), (106, i_psh (.int (-1)) 107), (107, i_iceq 117 110), (110, i_ild 11 112), (112, i_ild 7 114), (114, i_icge 122 117), (117, i_msk [true, true, true, true, true, true, true, false, true, true, true, true] (i_ild 11 119)), (119, i_goto 124), (122, i_ild 7 124), (124, i_msk [true, true, true, true, true, true, true, false, true, true, true, true] (i_ist 7 126)), (126, i_ild 11 128), (128, i_ild 8 130), (130, i_icle 138 133), (133, i_ild 11 135), (135, i_goto 140), (138, i_ild 8 140), (140, i_msk [true, true, true, true, true, true, true, true, false, true, true, false] (i_ist 8 142)), (142, i_ild 9 144), (144, i_ald 0 145), (145, i_ild 6 147), (147, i_cV 222 1 8 150), (150, i_msk [true, true, true, true, true, true, true, true, true, false, true, false] (i_ifle 157 153)), (153, i_psh (.int 1) 154), (154, i_goto 158), (157, i_psh (.int 0) 158), (158, i_msk [true, true, true, true, true, true, true, true, true, false, true, false] (i_iadd 159)), (159, i_ist 9 161), (161, i_inc 10 1 164), (164, i_goto 77), (167, i_ild 5 169), (169, i_ifne 177 172), (172, i_ild 7 174), (174, i_goto 190), (177, i_ild 5 179), (179, i_psh (.int 1) 180), (180, i_icne 188 183), (183, i_ild 8 185), (185, i_goto 190)]
theorem cs277_1 : ∀ q ∈ cl277_1, Sd gd_mt M277 q.1 q.2 := gd_ac r277_85 (gd_ac r277_87 (gd_ac r277_88 (gd_ac r277_89 (gd_ac r277_91 (gd_ac r277_94 (gd_ac r277_95 (gd_ac r277_96 (gd_ac r277_99 (gd_ac r277_102 (gd_ac r277_104 (gd_ac r277_106 (gd_ac r277_107 (gd_ac r277_110 (gd_ac r277_112 (gd_ac r277_114 (gd_ac r277_117 (gd_ac r277_119 (gd_ac r277_122 (gd_ac r277_124 (gd_ac r277_126 (gd_ac r277_128 (gd_ac r277_130 (gd_ac r277_133 (gd_ac r277_135 (gd_ac r277_138 (gd_ac r277_140 (gd_ac r277_142 (gd_ac r277_144 (gd_ac r277_145 (gd_ac r277_147 (gd_ac r277_150 (gd_ac r277_153 (gd_ac r277_154 (gd_ac r277_157 (gd_ac r277_158 (gd_ac r277_159 (gd_ac r277_161 (gd_ac r277_164 (gd_ac r277_167 (gd_ac r277_169 (gd_ac r277_172 (gd_ac r277_174 (gd_ac r277_177 (gd_ac r277_179 (gd_ac r277_180 (gd_ac r277_183 (gd_ac r277_185 (gd_an))))))))))))))))))))))))))))))))))))))))))))))))
theorem r277_188 : Sd gd_mt M277 188 (i_ild 9 190) := sd_iload dX8_span_188 rfl
theorem r277_190 : Sd gd_mt M277 190 (i_msk [false, false, false, false, false, false, false, false, false, false, false, false] (i_iret)) := sd_msk _ (sd_iret rfl dX8_span_190)
def cl277_2 : List (Nat × gd_I) := [(188, i_ild 9 190), (190, i_msk [false, false, false, false, false, false, false, false, false, false, false, false] (i_iret))]
theorem cs277_2 : ∀ q ∈ cl277_2, Sd gd_mt M277 q.1 q.2 := gd_ac r277_188 (gd_ac r277_190 (gd_an))
def cd277 (pc : Nat) : gd_I := if pc < 85 then lkI cl277_0 pc else if pc < 188 then lkI cl277_1 pc else lkI cl277_2 pc
theorem cg277 : ∀ pc, Sd gd_mt M277 pc (cd277 pc) := by
  intro pc
  unfold cd277
  by_cases h0 : pc < 85
  · rw [if_pos h0]; exact sd_lk cs277_0 pc
  rw [if_neg h0]
  by_cases h1 : pc < 188
  · rw [if_pos h1]; exact sd_lk cs277_1 pc
  rw [if_neg h1]
  exact sd_lk cs277_2 pc
theorem r278_0 : Sd gd_mt M278 0 (i_ald 0 1) := sd_aload_n dX8_image_0 rfl rfl
theorem r278_1 : Sd gd_mt M278 1 (i_psh (.int 0) 2) := sd_iconst dX8_image_1 (by decide) rfl
theorem r278_2 : Sd gd_mt M278 2 (i_putI 8 0 5) := sd_putI ck8 (by decide) rfl (.inl q1454) (.inl rfl) dX8_image_2 rfl
theorem r278_5 : Sd gd_mt M278 5 (i_ald 0 6) := sd_aload_n dX8_image_5 rfl rfl
theorem r278_6 : Sd gd_mt M278 6 (i_getI 8 56 9) := sd_getI ck8 (by decide) rfl (.inl q1510) dX8_image_6 rfl
theorem r278_9 : Sd gd_mt M278 9 (i_psh (.int 3) 10) := sd_iconst dX8_image_9 (by decide) rfl
theorem r278_10 : Sd gd_mt M278 10 (i_icne 15 13) := sd_icne dX8_image_10 (by decide) rfl
theorem r278_13 : Sd gd_mt M278 13 (i_psh (.int (-1)) 14) := sd_iconst dX8_image_13 (by decide) rfl
theorem r278_14 : Sd gd_mt M278 14 (i_iret) := sd_iret rfl dX8_image_14
theorem r278_15 : Sd gd_mt M278 15 (i_ald 0 16) := sd_aload_n dX8_image_15 rfl rfl
theorem r278_16 : Sd gd_mt M278 16 (i_ald 0 17) := sd_aload_n dX8_image_16 rfl rfl
theorem r278_17 : Sd gd_mt M278 17 (i_getI 8 56 20) := sd_getI ck8 (by decide) rfl (.inl q1510) dX8_image_17 rfl
theorem r278_20 : Sd gd_mt M278 20 (i_psh (.int 1) 21) := sd_iconst dX8_image_20 (by decide) rfl
theorem r278_21 : Sd gd_mt M278 21 (i_cV 279 2 8 24) := sd_cV2 e279 cal279 q2033 q2035 (rfl : gd_cl 8 = some _) qs83 dX8_image_21 rfl
theorem r278_24 : Sd gd_mt M278 24 (i_msk [true] (i_ald 0 25)) := sd_msk _ (sd_aload_n dX8_image_24 rfl rfl)
theorem r278_25 : Sd gd_mt M278 25 (i_dup 26) := sd_dup dX8_image_25 rfl
theorem r278_26 : Sd gd_mt M278 26 (i_getI 8 56 29) := sd_getI ck8 (by decide) rfl (.inl q1510) dX8_image_26 rfl
theorem r278_29 : Sd gd_mt M278 29 (i_psh (.int 1) 30) := sd_iconst dX8_image_29 (by decide) rfl
theorem r278_30 : Sd gd_mt M278 30 (i_iadd 31) := sd_iadd dX8_image_30 rfl
theorem r278_31 : Sd gd_mt M278 31 (i_putI 8 56 34) := sd_putI ck8 (by decide) rfl (.inl q1510) (.inl rfl) dX8_image_31 rfl
theorem r278_34 : Sd gd_mt M278 34 (i_ald 0 35) := sd_aload_n dX8_image_34 rfl rfl
theorem r278_35 : Sd gd_mt M278 35 (i_getI 8 56 38) := sd_getI ck8 (by decide) rfl (.inl q1510) dX8_image_35 rfl
theorem r278_38 : Sd gd_mt M278 38 (i_iret) := sd_iret rfl dX8_image_38
def cl278_0 : List (Nat × gd_I) := [(0, i_ald 0 1), (1, i_psh (.int 0) 2), (2, i_putI 8 0 5), (5, i_ald 0 6), (6, i_getI 8 56 9), (9, i_psh (.int 3) 10), (10, i_icne 15 13), (13, i_psh (.int (-1)) 14), (14, i_iret), (15, i_ald 0 16), (16, i_ald 0 17), (17, i_getI 8 56 20), (20, i_psh (.int 1) 21), (21, i_cV 279 2 8 24), (24, i_msk [true] (i_ald 0 25)), (25, i_dup 26), (26, i_getI 8 56 29), (29, i_psh (.int 1) 30), (30, i_iadd 31), (31, i_putI 8 56 34), (34, i_ald 0 35), (35, i_getI 8 56 38), (38, i_iret)]
theorem cs278_0 : ∀ q ∈ cl278_0, Sd gd_mt M278 q.1 q.2 := gd_ac r278_0 (gd_ac r278_1 (gd_ac r278_2 (gd_ac r278_5 (gd_ac r278_6 (gd_ac r278_9 (gd_ac r278_10 (gd_ac r278_13 (gd_ac r278_14 (gd_ac r278_15 (gd_ac r278_16 (gd_ac r278_17 (gd_ac r278_20 (gd_ac r278_21 (gd_ac r278_24 (gd_ac r278_25 (gd_ac r278_26 (gd_ac r278_29 (gd_ac r278_30 (gd_ac r278_31 (gd_ac r278_34 (gd_ac r278_35 (gd_ac r278_38 (gd_an)))))))))))))))))))))))
def cd278 (pc : Nat) : gd_I := lkI cl278_0 pc
theorem cg278 : ∀ pc, Sd gd_mt M278 pc (cd278 pc) := sd_lk cs278_0
theorem r279_0 : Sd gd_mt M279 0 (i_ald 0 1) := sd_aload_n dX8_keepsAll_0 rfl rfl
theorem r279_1 : Sd gd_mt M279 1 (i_psh (.int 851) 4) := sd_sipush dX8_keepsAll_1 (by decide) rfl
theorem r279_4 : Sd gd_mt M279 4 (i_ild 1 5) := sd_iload_n dX8_keepsAll_4 rfl rfl
theorem r279_5 : Sd gd_mt M279 5 (i_imul 6) := sd_imul dX8_keepsAll_5 rfl
theorem r279_6 : Sd gd_mt M279 6 (i_ald 0 7) := sd_aload_n dX8_keepsAll_6 rfl rfl
theorem r279_7 : Sd gd_mt M279 7 (i_getR 8 38 10) := sd_getR ck8 (by decide) rfl (.inl q1492) dX8_keepsAll_7 rfl
theorem r279_10 : Sd gd_mt M279 10 (i_psh (.int 50) 12) := sd_bipush dX8_keepsAll_10 (by decide) rfl
theorem r279_12 : Sd gd_mt M279 12 (i_ild 2 13) := sd_iload_n dX8_keepsAll_12 rfl rfl
theorem r279_13 : Sd gd_mt M279 13 (i_cV 280 4 8 16) := sd_cV2 e280 cal280 q2037 q2039 (rfl : gd_cl 8 = some _) qs84 dX8_keepsAll_13 rfl
theorem r279_16 : Sd gd_mt M279 16 (i_msk [true, false, true, false] (i_ist 3 17)) := sd_msk _ (sd_istore_n dX8_keepsAll_16 rfl (by decide) rfl)
theorem r279_17 : Sd gd_mt M279 17 (i_ald 0 18) := sd_aload_n dX8_keepsAll_17 rfl rfl
theorem r279_18 : Sd gd_mt M279 18 (i_ild 3 19) := sd_iload_n dX8_keepsAll_18 rfl rfl
theorem r279_19 : Sd gd_mt M279 19 (i_ald 0 20) := sd_aload_n dX8_keepsAll_19 rfl rfl
theorem r279_20 : Sd gd_mt M279 20 (i_getR 8 40 23) := sd_getR ck8 (by decide) rfl (.inl q1494) dX8_keepsAll_20 rfl
theorem r279_23 : Sd gd_mt M279 23 (i_psh (.int 800) 26) := sd_sipush dX8_keepsAll_23 (by decide) rfl
theorem r279_26 : Sd gd_mt M279 26 (i_ild 2 27) := sd_iload_n dX8_keepsAll_26 rfl rfl
theorem r279_27 : Sd gd_mt M279 27 (i_cV 280 4 8 30) := sd_cV2 e280 cal280 q2037 q2039 (rfl : gd_cl 8 = some _) qs84 dX8_keepsAll_27 rfl
theorem r279_30 : Sd gd_mt M279 30 (i_msk [true, false, true, false] (i_ist 3 31)) := sd_msk _ (sd_istore_n dX8_keepsAll_30 rfl (by decide) rfl)
theorem r279_31 : Sd gd_mt M279 31 (i_ild 2 32) := sd_iload_n dX8_keepsAll_31 rfl rfl
theorem r279_32 : Sd gd_mt M279 32 (i_ifeq 48 35) := sd_ifeq dX8_keepsAll_32 (by decide) rfl
theorem r279_35 : Sd gd_mt M279 35 (i_ald 0 36) := sd_aload_n dX8_keepsAll_35 rfl rfl
theorem r279_36 : Sd gd_mt M279 36 (i_getR 8 55 39) := sd_getR ck8 (by decide) rfl (.inl q1509) dX8_keepsAll_36 rfl
theorem r279_39 : Sd gd_mt M279 39 (i_ild 3 40) := sd_iload_n dX8_keepsAll_39 rfl rfl
theorem r279_40 : Sd gd_mt M279 40 (i_ald 0 41) := sd_aload_n dX8_keepsAll_40 rfl rfl
theorem r279_41 : Sd gd_mt M279 41 (i_getI 8 33 44) := sd_getI ck8 (by decide) rfl (.inl q1487) dX8_keepsAll_41 rfl
theorem r279_44 : Sd gd_mt M279 44 (i_astI 45) := sd_astI dX8_keepsAll_44 rfl
theorem r279_45 : Sd gd_mt M279 45 (i_goto 58) := sd_goto dX8_keepsAll_45 (by decide)
theorem r279_48 : Sd gd_mt M279 48 (i_ald 0 49) := sd_aload_n dX8_keepsAll_48 rfl rfl
theorem r279_49 : Sd gd_mt M279 49 (i_ald 0 50) := sd_aload_n dX8_keepsAll_49 rfl rfl
theorem r279_50 : Sd gd_mt M279 50 (i_getR 8 55 53) := sd_getR ck8 (by decide) rfl (.inl q1509) dX8_keepsAll_50 rfl
theorem r279_53 : Sd gd_mt M279 53 (i_ild 3 54) := sd_iload_n dX8_keepsAll_53 rfl rfl
theorem r279_54 : Sd gd_mt M279 54 (i_aldI 31 55) := sd_iald dX8_keepsAll_54 rfl
theorem r279_55 : Sd gd_mt M279 55 (i_putI 8 33 58) := sd_putI ck8 (by decide) rfl (.inl q1487) (.inl rfl) dX8_keepsAll_55 rfl
theorem r279_58 : Sd gd_mt M279 58 (i_msk [false, false, false, false] (i_ret)) := sd_msk _ (sd_ret rfl dX8_keepsAll_58)
def cl279_0 : List (Nat × gd_I) := [(0, i_ald 0 1), (1, i_psh (.int 851) 4), (4, i_ild 1 5), (5, i_imul 6), (6, i_ald 0 7), (7, i_getR 8 38 10), (10, i_psh (.int 50) 12), (12, i_ild 2 13), (13, i_cV 280 4 8 16), (16, i_msk [true, false, true, false] (i_ist 3 17)), (17, i_ald 0 18), (18, i_ild 3 19), (19, i_ald 0 20), (20, i_getR 8 40 23), (23, i_psh (.int 800) 26), (26, i_ild 2 27), (27, i_cV 280 4 8 30), (30, i_msk [true, false, true, false] (i_ist 3 31)), (31, i_ild 2 32), (32, i_ifeq 48 35), (35, i_ald 0 36), (36, i_getR 8 55 39), (39, i_ild 3 40), (40, i_ald 0 41), (41, i_getI 8 33 44), (44, i_astI 45), (45, i_goto 58), (48, i_ald 0 49), (49, i_ald 0 50), (50, i_getR 8 55 53), (53, i_ild 3 54), (54, i_aldI 31 55), (55, i_putI 8 33 58), (58, i_msk [false, false, false, false] (i_ret))]
theorem cs279_0 : ∀ q ∈ cl279_0, Sd gd_mt M279 q.1 q.2 := gd_ac r279_0 (gd_ac r279_1 (gd_ac r279_4 (gd_ac r279_5 (gd_ac r279_6 (gd_ac r279_7 (gd_ac r279_10 (gd_ac r279_12 (gd_ac r279_13 (gd_ac r279_16 (gd_ac r279_17 (gd_ac r279_18 (gd_ac r279_19 (gd_ac r279_20 (gd_ac r279_23 (gd_ac r279_26 (gd_ac r279_27 (gd_ac r279_30 (gd_ac r279_31 (gd_ac r279_32 (gd_ac r279_35 (gd_ac r279_36 (gd_ac r279_39 (gd_ac r279_40 (gd_ac r279_41 (gd_ac r279_44 (gd_ac r279_45 (gd_ac r279_48 (gd_ac r279_49 (gd_ac r279_50 (gd_ac r279_53 (gd_ac r279_54 (gd_ac r279_55 (gd_ac r279_58 (gd_an))))))))))))))))))))))))))))))))))
def cd279 (pc : Nat) : gd_I := lkI cl279_0 pc
theorem cg279 : ∀ pc, Sd gd_mt M279 pc (cd279 pc) := sd_lk cs279_0
theorem r280_0 : Sd gd_mt M280 0 (i_psh (.int 0) 1) := sd_iconst dX8_keepsRow_0 (by decide) rfl
theorem r280_1 : Sd gd_mt M280 1 (i_ist 5 3) := sd_istore dX8_keepsRow_1 (by decide) rfl
theorem r280_3 : Sd gd_mt M280 3 (i_msk [true, true, true, true, true, true] (i_ild 5 5)) := sd_msk _ (sd_iload dX8_keepsRow_3 rfl)
theorem r280_5 : Sd gd_mt M280 5 (i_ild 3 6) := sd_iload_n dX8_keepsRow_5 rfl rfl
theorem r280_6 : Sd gd_mt M280 6 (i_icge 49 9) := sd_icge dX8_keepsRow_6 (by decide) rfl
theorem r280_9 : Sd gd_mt M280 9 (i_ild 4 11) := sd_iload dX8_keepsRow_9 rfl
theorem r280_11 : Sd gd_mt M280 11 (i_ifeq 30 14) := sd_ifeq dX8_keepsRow_11 (by decide) rfl
theorem r280_14 : Sd gd_mt M280 14 (i_ald 0 15) := sd_aload_n dX8_keepsRow_14 rfl rfl
theorem r280_15 : Sd gd_mt M280 15 (i_getR 8 55 18) := sd_getR ck8 (by decide) rfl (.inl q1509) dX8_keepsRow_15 rfl
theorem r280_18 : Sd gd_mt M280 18 (i_ild 1 19) := sd_iload_n dX8_keepsRow_18 rfl rfl
theorem r280_19 : Sd gd_mt M280 19 (i_ild 5 21) := sd_iload dX8_keepsRow_19 rfl
theorem r280_21 : Sd gd_mt M280 21 (i_iadd 22) := sd_iadd dX8_keepsRow_21 rfl
theorem r280_22 : Sd gd_mt M280 22 (i_ald 2 23) := sd_aload_n dX8_keepsRow_22 rfl rfl
theorem r280_23 : Sd gd_mt M280 23 (i_ild 5 25) := sd_iload dX8_keepsRow_23 rfl
theorem r280_25 : Sd gd_mt M280 25 (i_aldI 31 26) := sd_iald dX8_keepsRow_25 rfl
theorem r280_26 : Sd gd_mt M280 26 (i_astI 27) := sd_astI dX8_keepsRow_26 rfl
theorem r280_27 : Sd gd_mt M280 27 (i_goto 43) := sd_goto dX8_keepsRow_27 (by decide)
theorem r280_30 : Sd gd_mt M280 30 (i_ald 2 31) := sd_aload_n dX8_keepsRow_30 rfl rfl
theorem r280_31 : Sd gd_mt M280 31 (i_ild 5 33) := sd_iload dX8_keepsRow_31 rfl
theorem r280_33 : Sd gd_mt M280 33 (i_ald 0 34) := sd_aload_n dX8_keepsRow_33 rfl rfl
theorem r280_34 : Sd gd_mt M280 34 (i_getR 8 55 37) := sd_getR ck8 (by decide) rfl (.inl q1509) dX8_keepsRow_34 rfl
theorem r280_37 : Sd gd_mt M280 37 (i_ild 1 38) := sd_iload_n dX8_keepsRow_37 rfl rfl
theorem r280_38 : Sd gd_mt M280 38 (i_ild 5 40) := sd_iload dX8_keepsRow_38 rfl
theorem r280_40 : Sd gd_mt M280 40 (i_iadd 41) := sd_iadd dX8_keepsRow_40 rfl
theorem r280_41 : Sd gd_mt M280 41 (i_aldI 31 42) := sd_iald dX8_keepsRow_41 rfl
theorem r280_42 : Sd gd_mt M280 42 (i_astI 43) := sd_astI dX8_keepsRow_42 rfl
theorem r280_43 : Sd gd_mt M280 43 (i_msk [true, true, true, true, true, true] (i_inc 5 1 46)) := sd_msk _ (sd_iinc dX8_keepsRow_43 (by decide) (by decide) rfl)
theorem r280_46 : Sd gd_mt M280 46 (i_goto 3) := sd_goto dX8_keepsRow_46 (by decide)
theorem r280_49 : Sd gd_mt M280 49 (i_ild 1 50) := sd_iload_n dX8_keepsRow_49 rfl rfl
theorem r280_50 : Sd gd_mt M280 50 (i_ild 3 51) := sd_iload_n dX8_keepsRow_50 rfl rfl
theorem r280_51 : Sd gd_mt M280 51 (i_iadd 52) := sd_iadd dX8_keepsRow_51 rfl
theorem r280_52 : Sd gd_mt M280 52 (i_iret) := sd_iret rfl dX8_keepsRow_52
def cl280_0 : List (Nat × gd_I) := [(0, i_psh (.int 0) 1), (1, i_ist 5 3), (3, i_msk [true, true, true, true, true, true] (i_ild 5 5)), (5, i_ild 3 6), (6, i_icge 49 9), (9, i_ild 4 11), (11, i_ifeq 30 14), (14, i_ald 0 15), (15, i_getR 8 55 18), (18, i_ild 1 19), (19, i_ild 5 21), (21, i_iadd 22), (22, i_ald 2 23), (23, i_ild 5 25), (25, i_aldI 31 26), (26, i_astI 27), (27, i_goto 43), (30, i_ald 2 31), (31, i_ild 5 33), (33, i_ald 0 34), (34, i_getR 8 55 37), (37, i_ild 1 38), (38, i_ild 5 40), (40, i_iadd 41), (41, i_aldI 31 42), (42, i_astI 43), (43, i_msk [true, true, true, true, true, true] (i_inc 5 1 46)), (46, i_goto 3), (49, i_ild 1 50), (50, i_ild 3 51), (51, i_iadd 52), (52, i_iret)]
theorem cs280_0 : ∀ q ∈ cl280_0, Sd gd_mt M280 q.1 q.2 := gd_ac r280_0 (gd_ac r280_1 (gd_ac r280_3 (gd_ac r280_5 (gd_ac r280_6 (gd_ac r280_9 (gd_ac r280_11 (gd_ac r280_14 (gd_ac r280_15 (gd_ac r280_18 (gd_ac r280_19 (gd_ac r280_21 (gd_ac r280_22 (gd_ac r280_23 (gd_ac r280_25 (gd_ac r280_26 (gd_ac r280_27 (gd_ac r280_30 (gd_ac r280_31 (gd_ac r280_33 (gd_ac r280_34 (gd_ac r280_37 (gd_ac r280_38 (gd_ac r280_40 (gd_ac r280_41 (gd_ac r280_42 (gd_ac r280_43 (gd_ac r280_46 (gd_ac r280_49 (gd_ac r280_50 (gd_ac r280_51 (gd_ac r280_52 (gd_an))))))))))))))))))))))))))))))))
def cd280 (pc : Nat) : gd_I := lkI cl280_0 pc
theorem cg280 : ∀ pc, Sd gd_mt M280 pc (cd280 pc) := sd_lk cs280_0
theorem r281_0 : Sd gd_mt M281 0 (i_ald 0 1) := sd_aload_n dX8_restore_0 rfl rfl
theorem r281_1 : Sd gd_mt M281 1 (i_psh (.int 0) 2) := sd_iconst dX8_restore_1 (by decide) rfl
theorem r281_2 : Sd gd_mt M281 2 (i_putI 8 0 5) := sd_putI ck8 (by decide) rfl (.inl q1454) (.inl rfl) dX8_restore_2 rfl
theorem r281_5 : Sd gd_mt M281 5 (i_ald 0 6) := sd_aload_n dX8_restore_5 rfl rfl
theorem r281_6 : Sd gd_mt M281 6 (i_getI 8 56 9) := sd_getI ck8 (by decide) rfl (.inl q1510) dX8_restore_6 rfl
theorem r281_9 : Sd gd_mt M281 9 (i_ifne 14 12) := sd_ifne dX8_restore_9 (by decide) rfl
theorem r281_12 : Sd gd_mt M281 12 (i_psh (.int (-1)) 13) := sd_iconst dX8_restore_12 (by decide) rfl
theorem r281_13 : Sd gd_mt M281 13 (i_iret) := sd_iret rfl dX8_restore_13
theorem r281_14 : Sd gd_mt M281 14 (i_ald 0 15) := sd_aload_n dX8_restore_14 rfl rfl
theorem r281_15 : Sd gd_mt M281 15 (i_dup 16) := sd_dup dX8_restore_15 rfl
theorem r281_16 : Sd gd_mt M281 16 (i_getI 8 56 19) := sd_getI ck8 (by decide) rfl (.inl q1510) dX8_restore_16 rfl
theorem r281_19 : Sd gd_mt M281 19 (i_psh (.int 1) 20) := sd_iconst dX8_restore_19 (by decide) rfl
theorem r281_20 : Sd gd_mt M281 20 (i_isub 21) := sd_isub dX8_restore_20 rfl
theorem r281_21 : Sd gd_mt M281 21 (i_putI 8 56 24) := sd_putI ck8 (by decide) rfl (.inl q1510) (.inl rfl) dX8_restore_21 rfl
theorem r281_24 : Sd gd_mt M281 24 (i_ald 0 25) := sd_aload_n dX8_restore_24 rfl rfl
theorem r281_25 : Sd gd_mt M281 25 (i_ald 0 26) := sd_aload_n dX8_restore_25 rfl rfl
theorem r281_26 : Sd gd_mt M281 26 (i_getI 8 56 29) := sd_getI ck8 (by decide) rfl (.inl q1510) dX8_restore_26 rfl
theorem r281_29 : Sd gd_mt M281 29 (i_psh (.int 0) 30) := sd_iconst dX8_restore_29 (by decide) rfl
theorem r281_30 : Sd gd_mt M281 30 (i_cV 279 2 8 33) := sd_cV2 e279 cal279 q2033 q2035 (rfl : gd_cl 8 = some _) qs83 dX8_restore_30 rfl
theorem r281_33 : Sd gd_mt M281 33 (i_msk [true] (i_ald 0 34)) := sd_msk _ (sd_aload_n dX8_restore_33 rfl rfl)
theorem r281_34 : Sd gd_mt M281 34 (i_psh (.int 0) 35) := sd_iconst dX8_restore_34 (by decide) rfl
theorem r281_35 : Sd gd_mt M281 35 (i_putI 8 34 38) := sd_putI ck8 (by decide) rfl (.inl q1488) (.inl rfl) dX8_restore_35 rfl
theorem r281_38 : Sd gd_mt M281 38 (i_ald 0 39) := sd_aload_n dX8_restore_38 rfl rfl
theorem r281_39 : Sd gd_mt M281 39 (i_getI 8 56 42) := sd_getI ck8 (by decide) rfl (.inl q1510) dX8_restore_39 rfl
theorem r281_42 : Sd gd_mt M281 42 (i_iret) := sd_iret rfl dX8_restore_42
def cl281_0 : List (Nat × gd_I) := [(0, i_ald 0 1), (1, i_psh (.int 0) 2), (2, i_putI 8 0 5), (5, i_ald 0 6), (6, i_getI 8 56 9), (9, i_ifne 14 12), (12, i_psh (.int (-1)) 13), (13, i_iret), (14, i_ald 0 15), (15, i_dup 16), (16, i_getI 8 56 19), (19, i_psh (.int 1) 20), (20, i_isub 21), (21, i_putI 8 56 24), (24, i_ald 0 25), (25, i_ald 0 26), (26, i_getI 8 56 29), (29, i_psh (.int 0) 30), (30, i_cV 279 2 8 33), (33, i_msk [true] (i_ald 0 34)), (34, i_psh (.int 0) 35), (35, i_putI 8 34 38), (38, i_ald 0 39), (39, i_getI 8 56 42), (42, i_iret)]
theorem cs281_0 : ∀ q ∈ cl281_0, Sd gd_mt M281 q.1 q.2 := gd_ac r281_0 (gd_ac r281_1 (gd_ac r281_2 (gd_ac r281_5 (gd_ac r281_6 (gd_ac r281_9 (gd_ac r281_12 (gd_ac r281_13 (gd_ac r281_14 (gd_ac r281_15 (gd_ac r281_16 (gd_ac r281_19 (gd_ac r281_20 (gd_ac r281_21 (gd_ac r281_24 (gd_ac r281_25 (gd_ac r281_26 (gd_ac r281_29 (gd_ac r281_30 (gd_ac r281_33 (gd_ac r281_34 (gd_ac r281_35 (gd_ac r281_38 (gd_ac r281_39 (gd_ac r281_42 (gd_an)))))))))))))))))))))))))
def cd281 (pc : Nat) : gd_I := lkI cl281_0 pc
theorem cg281 : ∀ pc, Sd gd_mt M281 pc (cd281 pc) := sd_lk cs281_0
theorem r282_0 : Sd gd_mt M282 0 (i_ald 0 1) := sd_aload_n dX8_status_0 rfl rfl
theorem r282_1 : Sd gd_mt M282 1 (i_psh (.int 0) 2) := sd_iconst dX8_status_1 (by decide) rfl
theorem r282_2 : Sd gd_mt M282 2 (i_putI 8 0 5) := sd_putI ck8 (by decide) rfl (.inl q1454) (.inl rfl) dX8_status_2 rfl
theorem r282_5 : Sd gd_mt M282 5 (i_ild 1 6) := sd_iload_n dX8_status_5 rfl rfl
theorem r282_6 : Sd gd_mt M282 6 (i_psh (.int 0) 7) := sd_iconst dX8_status_6 (by decide) rfl
theorem r282_7 : Sd gd_mt M282 7 (i_psh (.int 1) 8) := sd_iconst dX8_status_7 (by decide) rfl
theorem r282_8 : Sd gd_mt M282 8 (i_cS 233 3 11) := sd_cS2 e233 cal233 q1853 q1854 dX8_status_8 rfl
theorem r282_11 : Sd gd_mt M282 11 (i_msk [true, true] (i_ifeq 23 14)) := sd_msk _ (sd_ifeq dX8_status_11 (by decide) rfl)
theorem r282_14 : Sd gd_mt M282 14 (i_ald 0 15) := sd_aload_n dX8_status_14 rfl rfl
theorem r282_15 : Sd gd_mt M282 15 (i_getR 8 1 18) := sd_getR ck8 (by decide) rfl (.inl q1455) dX8_status_15 rfl
theorem r282_18 : Sd gd_mt M282 18 (i_ild 1 19) := sd_iload_n dX8_status_18 rfl rfl
theorem r282_19 : Sd gd_mt M282 19 (i_aldI 31 20) := sd_iald dX8_status_19 rfl
theorem r282_20 : Sd gd_mt M282 20 (i_goto 24) := sd_goto dX8_status_20 (by decide)
theorem r282_23 : Sd gd_mt M282 23 (i_psh (.int (-1)) 24) := sd_iconst dX8_status_23 (by decide) rfl
theorem r282_24 : Sd gd_mt M282 24 (i_msk [false, false] (i_iret)) := sd_msk _ (sd_iret rfl dX8_status_24)
def cl282_0 : List (Nat × gd_I) := [(0, i_ald 0 1), (1, i_psh (.int 0) 2), (2, i_putI 8 0 5), (5, i_ild 1 6), (6, i_psh (.int 0) 7), (7, i_psh (.int 1) 8), (8, i_cS 233 3 11), (11, i_msk [true, true] (i_ifeq 23 14)), (14, i_ald 0 15), (15, i_getR 8 1 18), (18, i_ild 1 19), (19, i_aldI 31 20), (20, i_goto 24), (23, i_psh (.int (-1)) 24), (24, i_msk [false, false] (i_iret))]
theorem cs282_0 : ∀ q ∈ cl282_0, Sd gd_mt M282 q.1 q.2 := gd_ac r282_0 (gd_ac r282_1 (gd_ac r282_2 (gd_ac r282_5 (gd_ac r282_6 (gd_ac r282_7 (gd_ac r282_8 (gd_ac r282_11 (gd_ac r282_14 (gd_ac r282_15 (gd_ac r282_18 (gd_ac r282_19 (gd_ac r282_20 (gd_ac r282_23 (gd_ac r282_24 (gd_an)))))))))))))))
def cd282 (pc : Nat) : gd_I := lkI cl282_0 pc
theorem cg282 : ∀ pc, Sd gd_mt M282 pc (cd282 pc) := sd_lk cs282_0
theorem r283_0 : Sd gd_mt M283 0 (i_ald 0 1) := sd_aload_n dX8_count_0 rfl rfl
theorem r283_1 : Sd gd_mt M283 1 (i_psh (.int 0) 2) := sd_iconst dX8_count_1 (by decide) rfl
theorem r283_2 : Sd gd_mt M283 2 (i_putI 8 0 5) := sd_putI ck8 (by decide) rfl (.inl q1454) (.inl rfl) dX8_count_2 rfl
theorem r283_5 : Sd gd_mt M283 5 (i_ild 1 6) := sd_iload_n dX8_count_5 rfl rfl
theorem r283_6 : Sd gd_mt M283 6 (i_ifne 16 9) := sd_ifne dX8_count_6 (by decide) rfl
theorem r283_9 : Sd gd_mt M283 9 (i_ald 0 10) := sd_aload_n dX8_count_9 rfl rfl
theorem r283_10 : Sd gd_mt M283 10 (i_getI 8 56 13) := sd_getI ck8 (by decide) rfl (.inl q1510) dX8_count_10 rfl
theorem r283_13 : Sd gd_mt M283 13 (i_goto 41) := sd_goto dX8_count_13 (by decide)
theorem r283_16 : Sd gd_mt M283 16 (i_ild 1 17) := sd_iload_n dX8_count_16 rfl rfl
theorem r283_17 : Sd gd_mt M283 17 (i_psh (.int 1) 18) := sd_iconst dX8_count_17 (by decide) rfl
theorem r283_18 : Sd gd_mt M283 18 (i_icne 28 21) := sd_icne dX8_count_18 (by decide) rfl
theorem r283_21 : Sd gd_mt M283 21 (i_ald 0 22) := sd_aload_n dX8_count_21 rfl rfl
theorem r283_22 : Sd gd_mt M283 22 (i_getI 8 2 25) := sd_getI ck8 (by decide) rfl (.inl q1456) dX8_count_22 rfl
theorem r283_25 : Sd gd_mt M283 25 (i_goto 41) := sd_goto dX8_count_25 (by decide)
theorem r283_28 : Sd gd_mt M283 28 (i_ild 1 29) := sd_iload_n dX8_count_28 rfl rfl
theorem r283_29 : Sd gd_mt M283 29 (i_psh (.int 2) 30) := sd_iconst dX8_count_29 (by decide) rfl
theorem r283_30 : Sd gd_mt M283 30 (i_icne 40 33) := sd_icne dX8_count_30 (by decide) rfl
theorem r283_33 : Sd gd_mt M283 33 (i_ald 0 34) := sd_aload_n dX8_count_33 rfl rfl
theorem r283_34 : Sd gd_mt M283 34 (i_getI 8 33 37) := sd_getI ck8 (by decide) rfl (.inl q1487) dX8_count_34 rfl
theorem r283_37 : Sd gd_mt M283 37 (i_goto 41) := sd_goto dX8_count_37 (by decide)
theorem r283_40 : Sd gd_mt M283 40 (i_psh (.int (-1)) 41) := sd_iconst dX8_count_40 (by decide) rfl
theorem r283_41 : Sd gd_mt M283 41 (i_msk [false, false] (i_iret)) := sd_msk _ (sd_iret rfl dX8_count_41)
def cl283_0 : List (Nat × gd_I) := [(0, i_ald 0 1), (1, i_psh (.int 0) 2), (2, i_putI 8 0 5), (5, i_ild 1 6), (6, i_ifne 16 9), (9, i_ald 0 10), (10, i_getI 8 56 13), (13, i_goto 41), (16, i_ild 1 17), (17, i_psh (.int 1) 18), (18, i_icne 28 21), (21, i_ald 0 22), (22, i_getI 8 2 25), (25, i_goto 41), (28, i_ild 1 29), (29, i_psh (.int 2) 30), (30, i_icne 40 33), (33, i_ald 0 34), (34, i_getI 8 33 37), (37, i_goto 41), (40, i_psh (.int (-1)) 41), (41, i_msk [false, false] (i_iret))]
theorem cs283_0 : ∀ q ∈ cl283_0, Sd gd_mt M283 q.1 q.2 := gd_ac r283_0 (gd_ac r283_1 (gd_ac r283_2 (gd_ac r283_5 (gd_ac r283_6 (gd_ac r283_9 (gd_ac r283_10 (gd_ac r283_13 (gd_ac r283_16 (gd_ac r283_17 (gd_ac r283_18 (gd_ac r283_21 (gd_ac r283_22 (gd_ac r283_25 (gd_ac r283_28 (gd_ac r283_29 (gd_ac r283_30 (gd_ac r283_33 (gd_ac r283_34 (gd_ac r283_37 (gd_ac r283_40 (gd_ac r283_41 (gd_an))))))))))))))))))))))
def cd283 (pc : Nat) : gd_I := lkI cl283_0 pc
theorem cg283 : ∀ pc, Sd gd_mt M283 pc (cd283 pc) := sd_lk cs283_0

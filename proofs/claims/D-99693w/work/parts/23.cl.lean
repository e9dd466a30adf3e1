/-! code tables and their rows -/
set_option maxRecDepth 100000
theorem r12_0 : Sd gd_mt M12 0 (i_new 1 23 3) := sd_new ck1 (by decide) q120 q121 q86 dL_law_0 rfl
theorem r12_3 : Sd gd_mt M12 3 (i_dup 4) := sd_dup dL_law_3 rfl
theorem r12_4 : Sd gd_mt M12 4 (i_cV 41 0 1 7) := sd_cI2 e41 cal41 q122 rfl rfl rfl q123 (rfl : gd_cl 1 = some _) dL_law_4 rfl
theorem r12_7 : Sd gd_mt M12 7 (i_msk [true, false, false, false, false, false, false, false] (i_ast 1 8)) := sd_msk _ (sd_astore_n dL_law_7 rfl (by decide) rfl)
theorem r12_8 : Sd gd_mt M12 8 (i_new 8 57 11) := sd_new ck8 (by decide) q1436 q1437 q94 dL_law_8 rfl
theorem r12_11 : Sd gd_mt M12 11 (i_dup 12) := sd_dup dL_law_11 rfl
theorem r12_12 : Sd gd_mt M12 12 (i_cV 176 0 8 15) := sd_cI2 e176 cal176 q1438 rfl rfl rfl q1439 (rfl : gd_cl 8 = some _) dL_law_12 rfl
theorem r12_15 : Sd gd_mt M12 15 (i_msk [true, true, false, false, false, false, false, false] (i_ast 2 16)) := sd_msk _ (sd_astore_n dL_law_15 rfl (by decide) rfl)
theorem r12_16 : Sd gd_mt M12 16 (i_psh (.int 1) 17) := sd_iconst dL_law_16 (by decide) rfl
theorem r12_17 : Sd gd_mt M12 17 (i_newa 34 19) := sd_newa (t := 34) (at9 := .long) rfl rfl (by decide) (fun G s h => (h.2.2.1 34 _ rfl).2) q426 dL_law_17 rfl
theorem r12_19 : Sd gd_mt M12 19 (i_ast 3 20) := sd_astore_n dL_law_19 rfl (by decide) rfl
theorem r12_20 : Sd gd_mt M12 20 (i_psh (.int 0) 21) := sd_iconst dL_law_20 (by decide) rfl
theorem r12_21 : Sd gd_mt M12 21 (i_ist 4 23) := sd_istore dL_law_21 (by decide) rfl
theorem r12_23 : Sd gd_mt M12 23 (i_msk [true, true, true, true, true, false, false, false] (i_ild 4 25)) := sd_msk _ (sd_iload dL_law_23 rfl)
theorem r12_25 : Sd gd_mt M12 25 (i_ald 0 26) := sd_aload_n dL_law_25 rfl rfl
theorem r12_26 : Sd gd_mt M12 26 (i_alenF 41 27) := sd_alenF (rfl : gd_fty 41 = some _) (by decide) dL_law_26 rfl
theorem r12_27 : Sd gd_mt M12 27 (i_psh (.int 9) 29) := sd_bipush dL_law_27 (by decide) rfl
theorem r12_29 : Sd gd_mt M12 29 (i_isub 30) := sd_isub dL_law_29 rfl
theorem r12_30 : Sd gd_mt M12 30 (i_icgt 2334 33) := sd_icgt dL_law_30 (by decide) rfl
theorem r12_33 : Sd gd_mt M12 33 (i_ald 0 34) := sd_aload_n dL_law_33 rfl rfl
theorem r12_34 : Sd gd_mt M12 34 (i_ild 4 36) := sd_iload dL_law_34 rfl
theorem r12_36 : Sd gd_mt M12 36 (i_aldF 41 37) := sd_ialdF dL_law_36 rfl
theorem r12_37 : Sd gd_mt M12 37 (i_psh (.int 63) 39) := sd_bipush dL_law_37 (by decide) rfl
theorem r12_39 : Sd gd_mt M12 39 (i_iand 40) := sd_iand dL_law_39 rfl
theorem r12_40 : Sd gd_mt M12 40 (i_sw [(0, 204), (1, 277), (2, 333), (3, 389), (4, 445), (5, 501), (6, 514), (7, 527), (8, 583), (9, 651), (10, 719), (11, 775), (12, 921), (13, 989), (14, 1057), (15, 1125), (16, 1138), (17, 1194), (18, 1207), (19, 1263), (20, 1331), (21, 1399), (22, 1490), (23, 1570), (24, 1650), (25, 1706), (26, 1762), (27, 1818), (28, 1874), (29, 1930), (30, 1986), (31, 2042), (32, 2134), (33, 2252), (34, 2265), (35, 2278), (36, 2303)] 2328) := sd_tsw dL_law_40 (by decide) (by decide) (by decide)
theorem r12_204 : Sd gd_mt M12 204 (i_ald 1 205) := sd_aload_n dL_law_204 rfl rfl
theorem r12_205 : Sd gd_mt M12 205 (i_ald 0 206) := sd_aload_n dL_law_205 rfl rfl
theorem r12_206 : Sd gd_mt M12 206 (i_ild 4 208) := sd_iload dL_law_206 rfl
theorem r12_208 : Sd gd_mt M12 208 (i_psh (.int 1) 209) := sd_iconst dL_law_208 (by decide) rfl
theorem r12_209 : Sd gd_mt M12 209 (i_iadd 210) := sd_iadd dL_law_209 rfl
theorem r12_210 : Sd gd_mt M12 210 (i_aldF 41 211) := sd_ialdF dL_law_210 rfl
theorem r12_211 : Sd gd_mt M12 211 (i_ald 0 212) := sd_aload_n dL_law_211 rfl rfl
theorem r12_212 : Sd gd_mt M12 212 (i_ild 4 214) := sd_iload dL_law_212 rfl
theorem r12_214 : Sd gd_mt M12 214 (i_psh (.int 2) 215) := sd_iconst dL_law_214 (by decide) rfl
theorem r12_215 : Sd gd_mt M12 215 (i_iadd 216) := sd_iadd dL_law_215 rfl
theorem r12_216 : Sd gd_mt M12 216 (i_aldF 41 217) := sd_ialdF dL_law_216 rfl
theorem r12_217 : Sd gd_mt M12 217 (i_ald 0 218) := sd_aload_n dL_law_217 rfl rfl
theorem r12_218 : Sd gd_mt M12 218 (i_ild 4 220) := sd_iload dL_law_218 rfl
theorem r12_220 : Sd gd_mt M12 220 (i_psh (.int 3) 221) := sd_iconst dL_law_220 (by decide) rfl
theorem r12_221 : Sd gd_mt M12 221 (i_iadd 222) := sd_iadd dL_law_221 rfl
theorem r12_222 : Sd gd_mt M12 222 (i_aldF 41 223) := sd_ialdF dL_law_222 rfl
theorem r12_223 : Sd gd_mt M12 223 (i_ald 0 224) := sd_aload_n dL_law_223 rfl rfl
theorem r12_224 : Sd gd_mt M12 224 (i_ild 4 226) := sd_iload dL_law_224 rfl
theorem r12_226 : Sd gd_mt M12 226 (i_psh (.int 4) 227) := sd_iconst dL_law_226 (by decide) rfl
theorem r12_227 : Sd gd_mt M12 227 (i_iadd 228) := sd_iadd dL_law_227 rfl
theorem r12_228 : Sd gd_mt M12 228 (i_aldF 41 229) := sd_ialdF dL_law_228 rfl
theorem r12_229 : Sd gd_mt M12 229 (i_ald 0 230) := sd_aload_n dL_law_229 rfl rfl
theorem r12_230 : Sd gd_mt M12 230 (i_ild 4 232) := sd_iload dL_law_230 rfl
def cl12_0 : List (Nat × gd_I) := [(0, i_new 1 23 3), (3, i_dup 4), (4, i_cV 41 0 1 7), (7, i_msk [true, false, false, false, false, false, false, false] (i_ast 1 8)), (8, i_new 8 57 11), (11, i_dup 12), (12, i_cV 176 0 8 15), (15, i_msk [true, true, false, false, false, false, false, false] (i_ast 2 16)), (16, i_psh (.int 1) 17), (17, i_newa 34 19), (19, i_ast 3 20), (20, i_psh (.int 0) 21), (21, i_ist 4 23), (23, i_msk [true, true, true, true, true, false, false, false] (i_ild 4 25)), (25, i_ald 0 26), (26, i_alenF 41 27), (27, i_psh (.int 9) 29), (29, i_isub 30), (30, i_icgt 2334 33), (33, i_ald 0 34), (34, i_ild 4 36), (36, i_aldF 41 37), (37, i_psh (.int 63) 39), (39, i_iand 40), (40, i_sw [(0, 204), (1, 277), (2, 333), (3, 389), (4, 445), (5, 501), (6, 514), (7, 527), (8, 583), (9, 651), (10, 719), (11, 775), (12, 921), (13, 989), (14, 1057), (15, 1125), (16, 1138), (17, 1194), (18, 1207), (19, 1263), (20, 1331), (21, 1399), (22, 1490), (23, 1570), (24, 1650), (25, 1706), (26, 1762), (27, 1818), (28, 1874), (29, 1930), (30, 1986), (31, 2042), (32, 2134), (33, 2252), (34, 2265), (35, 2278), (36, 2303)] 2328), (204, i_ald 1 205), (205, i_ald 0 206), (206, i_ild 4 208), (208, i_psh (.int 1) 209), (209, i_iadd 210), (210, i_aldF 41 211), (211, i_ald 0 212), (212, i_ild 4 214), (214, i_psh (.int 2) 215), (215, i_iadd 216), (216, i_aldF 41 217), (217, i_ald 0 218), (218, i_ild 4 220), (220, i_psh (.int 3) 221), (221, i_iadd 222), (222, i_aldF 41 223), (223, i_ald 0 224), (224, i_ild 4 226), (226, i_psh (.int 4) 227), (227, i_iadd 228), (228, i_aldF 41 229), (229, i_ald 0 230), (230, i_ild 4 232)]
theorem cs12_0 : ∀ q ∈ cl12_0, Sd gd_mt M12 q.1 q.2 := gd_ac r12_0 (gd_ac r12_3 (gd_ac r12_4 (gd_ac r12_7 (gd_ac r12_8 (gd_ac r12_11 (gd_ac r12_12 (gd_ac r12_15 (gd_ac r12_16 (gd_ac r12_17 (gd_ac r12_19 (gd_ac r12_20 (gd_ac r12_21 (gd_ac r12_23 (gd_ac r12_25 (gd_ac r12_26 (gd_ac r12_27 (gd_ac r12_29 (gd_ac r12_30 (gd_ac r12_33 (gd_ac r12_34 (gd_ac r12_36 (gd_ac r12_37 (gd_ac r12_39 (gd_ac r12_40 (gd_ac r12_204 (gd_ac r12_205 (gd_ac r12_206 (gd_ac r12_208 (gd_ac r12_209 (gd_ac r12_210 (gd_ac r12_211 (gd_ac r12_212 (gd_ac r12_214 (gd_ac r12_215 (gd_ac r12_216 (gd_ac r12_217 (gd_ac r12_218 (gd_ac r12_220 (gd_ac r12_221 (gd_ac r12_222 (gd_ac r12_223 (gd_ac r12_224 (gd_ac r12_226 (gd_ac r12_227 (gd_ac r12_228 (gd_ac r12_229 (gd_ac r12_230 (gd_an))))))))))))))))))))))))))))))))))))))))))))))))
theorem r12_232 : Sd gd_mt M12 232 (i_psh (.int 5) 233) := sd_iconst dL_law_232 (by decide) rfl
theorem r12_233 : Sd gd_mt M12 233 (i_iadd 234) := sd_iadd dL_law_233 rfl
theorem r12_234 : Sd gd_mt M12 234 (i_aldF 41 235) := sd_ialdF dL_law_234 rfl
theorem r12_235 : Sd gd_mt M12 235 (i_cV 42 5 1 238) := sd_cV2 e42 cal42 q427 q428 (rfl : gd_cl 1 = some _) q429 dL_law_235 rfl
theorem r12_238 : Sd gd_mt M12 238 (i_msk [true, true, true, true, true, false, false, false] (i_ald 2 239)) := sd_msk _ (sd_aload_n dL_law_238 rfl rfl)
theorem r12_239 : Sd gd_mt M12 239 (i_ald 0 240) := sd_aload_n dL_law_239 rfl rfl
theorem r12_240 : Sd gd_mt M12 240 (i_ild 4 242) := sd_iload dL_law_240 rfl
theorem r12_242 : Sd gd_mt M12 242 (i_psh (.int 1) 243) := sd_iconst dL_law_242 (by decide) rfl
theorem r12_243 : Sd gd_mt M12 243 (i_iadd 244) := sd_iadd dL_law_243 rfl
theorem r12_244 : Sd gd_mt M12 244 (i_aldF 41 245) := sd_ialdF dL_law_244 rfl
theorem r12_245 : Sd gd_mt M12 245 (i_ald 0 246) := sd_aload_n dL_law_245 rfl rfl
theorem r12_246 : Sd gd_mt M12 246 (i_ild 4 248) := sd_iload dL_law_246 rfl
theorem r12_248 : Sd gd_mt M12 248 (i_psh (.int 2) 249) := sd_iconst dL_law_248 (by decide) rfl
theorem r12_249 : Sd gd_mt M12 249 (i_iadd 250) := sd_iadd dL_law_249 rfl
theorem r12_250 : Sd gd_mt M12 250 (i_aldF 41 251) := sd_ialdF dL_law_250 rfl
theorem r12_251 : Sd gd_mt M12 251 (i_ald 0 252) := sd_aload_n dL_law_251 rfl rfl
theorem r12_252 : Sd gd_mt M12 252 (i_ild 4 254) := sd_iload dL_law_252 rfl
theorem r12_254 : Sd gd_mt M12 254 (i_psh (.int 3) 255) := sd_iconst dL_law_254 (by decide) rfl
theorem r12_255 : Sd gd_mt M12 255 (i_iadd 256) := sd_iadd dL_law_255 rfl
theorem r12_256 : Sd gd_mt M12 256 (i_aldF 41 257) := sd_ialdF dL_law_256 rfl
theorem r12_257 : Sd gd_mt M12 257 (i_ald 0 258) := sd_aload_n dL_law_257 rfl rfl
theorem r12_258 : Sd gd_mt M12 258 (i_ild 4 260) := sd_iload dL_law_258 rfl
theorem r12_260 : Sd gd_mt M12 260 (i_psh (.int 4) 261) := sd_iconst dL_law_260 (by decide) rfl
theorem r12_261 : Sd gd_mt M12 261 (i_iadd 262) := sd_iadd dL_law_261 rfl
theorem r12_262 : Sd gd_mt M12 262 (i_aldF 41 263) := sd_ialdF dL_law_262 rfl
theorem r12_263 : Sd gd_mt M12 263 (i_ald 0 264) := sd_aload_n dL_law_263 rfl rfl
theorem r12_264 : Sd gd_mt M12 264 (i_ild 4 266) := sd_iload dL_law_264 rfl
theorem r12_266 : Sd gd_mt M12 266 (i_psh (.int 5) 267) := sd_iconst dL_law_266 (by decide) rfl
theorem r12_267 : Sd gd_mt M12 267 (i_iadd 268) := sd_iadd dL_law_267 rfl
theorem r12_268 : Sd gd_mt M12 268 (i_aldF 41 269) := sd_ialdF dL_law_268 rfl
theorem r12_269 : Sd gd_mt M12 269 (i_cV 180 5 8 272) := sd_cV2 e180 cal180 q1627 q1628 (rfl : gd_cl 8 = some _) q1629 dL_law_269 rfl
theorem r12_272 : Sd gd_mt M12 272 (i_msk [true, true, true, true, true, false, false, false] (i_iceq 2328 275)) := sd_msk _ (sd_iceq dL_law_272 (by decide) rfl)
theorem r12_275 : Sd gd_mt M12 275 (i_psh (.int 0) 276) := sd_iconst dL_law_275 (by decide) rfl
theorem r12_276 : Sd gd_mt M12 276 (i_zret) := sd_zret rfl dL_law_276
theorem r12_277 : Sd gd_mt M12 277 (i_ald 1 278) := sd_aload_n dL_law_277 rfl rfl
theorem r12_278 : Sd gd_mt M12 278 (i_ald 0 279) := sd_aload_n dL_law_278 rfl rfl
theorem r12_279 : Sd gd_mt M12 279 (i_ild 4 281) := sd_iload dL_law_279 rfl
theorem r12_281 : Sd gd_mt M12 281 (i_psh (.int 1) 282) := sd_iconst dL_law_281 (by decide) rfl
theorem r12_282 : Sd gd_mt M12 282 (i_iadd 283) := sd_iadd dL_law_282 rfl
theorem r12_283 : Sd gd_mt M12 283 (i_aldF 41 284) := sd_ialdF dL_law_283 rfl
theorem r12_284 : Sd gd_mt M12 284 (i_ald 3 285) := sd_aload_n dL_law_284 rfl rfl
theorem r12_285 : Sd gd_mt M12 285 (i_cS 13 3 288) := sd_cS2 e13 cal13 q504 q505 dL_law_285 rfl
theorem r12_288 : Sd gd_mt M12 288 (i_msk [true, true, true, true, true, false, false, false] (i_ist 5 290)) := sd_msk _ (sd_istore dL_law_288 (by decide) rfl)
theorem r12_290 : Sd gd_mt M12 290 (i_ald 2 291) := sd_aload_n dL_law_290 rfl rfl
theorem r12_291 : Sd gd_mt M12 291 (i_ald 0 292) := sd_aload_n dL_law_291 rfl rfl
theorem r12_292 : Sd gd_mt M12 292 (i_ild 4 294) := sd_iload dL_law_292 rfl
theorem r12_294 : Sd gd_mt M12 294 (i_psh (.int 1) 295) := sd_iconst dL_law_294 (by decide) rfl
theorem r12_295 : Sd gd_mt M12 295 (i_iadd 296) := sd_iadd dL_law_295 rfl
def cl12_1 : List (Nat × gd_I) := [(232, i_psh (.int 5) 233), (233, i_iadd 234), (234, i_aldF 41 235), (235, i_cV 42 5 1 238), (238, i_msk [true, true, true, true, true, false, false, false] (i_ald 2 239)), (239, i_ald 0 240), (240, i_ild 4 242), (242, i_psh (.int 1) 243), (243, i_iadd 244), (244, i_aldF 41 245), (245, i_ald 0 246), (246, i_ild 4 248), (248, i_psh (.int 2) 249), (249, i_iadd 250), (250, i_aldF 41 251), (251, i_ald 0 252), (252, i_ild 4 254), (254, i_psh (.int 3) 255), (255, i_iadd 256), (256, i_aldF 41 257), (257, i_ald 0 258), (258, i_ild 4 260), (260, i_psh (.int 4) 261), (261, i_iadd 262), (262, i_aldF 41 263), (263, i_ald 0 264), (264, i_ild 4 266), (266, i_psh (.int 5) 267), (267, i_iadd 268), (268, i_aldF 41 269), (269, i_cV 180 5 8 272), (272, i_msk [true, true, true, true, true, false, false, false] (i_iceq 2328 275)), (275, i_psh (.int 0) 276), (276, i_zret), (277, i_ald 1 278), (278, i_ald 0 279), (279, i_ild 4 281), (281, i_psh (.int 1) 282), (282, i_iadd 283), (283, i_aldF 41 284), (284, i_ald 3 285), (285, i_cS 13 3 288), (288, i_msk [true, true, true, true, true, false, false, false] (i_ist 5 290)), (290, i_ald 2 291), (291, i_ald 0 292), (292, i_ild 4 294), (294, i_psh (.int 1) 295), (295, i_iadd 296)]
theorem cs12_1 : ∀ q ∈ cl12_1, Sd gd_mt M12 q.1 q.2 := gd_ac r12_232 (gd_ac r12_233 (gd_ac r12_234 (gd_ac r12_235 (gd_ac r12_238 (gd_ac r12_239 (gd_ac r12_240 (gd_ac r12_242 (gd_ac r12_243 (gd_ac r12_244 (gd_ac r12_245 (gd_ac r12_246 (gd_ac r12_248 (gd_ac r12_249 (gd_ac r12_250 (gd_ac r12_251 (gd_ac r12_252 (gd_ac r12_254 (gd_ac r12_255 (gd_ac r12_256 (gd_ac r12_257 (gd_ac r12_258 (gd_ac r12_260 (gd_ac r12_261 (gd_ac r12_262 (gd_ac r12_263 (gd_ac r12_264 (gd_ac r12_266 (gd_ac r12_267 (gd_ac r12_268 (gd_ac r12_269 (gd_ac r12_272 (gd_ac r12_275 (gd_ac r12_276 (gd_ac r12_277 (gd_ac r12_278 (gd_ac r12_279 (gd_ac r12_281 (gd_ac r12_282 (gd_ac r12_283 (gd_ac r12_284 (gd_ac r12_285 (gd_ac r12_288 (gd_ac r12_290 (gd_ac r12_291 (gd_ac r12_292 (gd_ac r12_294 (gd_ac r12_295 (gd_an))))))))))))))))))))))))))))))))))))))))))))))))
theorem r12_296 : Sd gd_mt M12 296 (i_aldF 41 297) := sd_ialdF dL_law_296 rfl
theorem r12_297 : Sd gd_mt M12 297 (i_cV 182 1 8 300) := sd_cV2 e182 cal182 q1635 q1636 (rfl : gd_cl 8 = some _) q1637 dL_law_297 rfl
theorem r12_300 : Sd gd_mt M12 300 (i_msk [true, true, true, true, true, true, false, false] (i_ist 6 302)) := sd_msk _ (sd_istore dL_law_300 (by decide) rfl)
theorem r12_302 : Sd gd_mt M12 302 (i_ald 2 303) := sd_aload_n dL_law_302 rfl rfl
theorem r12_303 : Sd gd_mt M12 303 (i_cV 175 0 8 306) := sd_cV2 e175 cal175 q1432 q1433 (rfl : gd_cl 8 = some _) q1434 dL_law_303 rfl
theorem r12_306 : Sd gd_mt M12 306 (i_msk [true, true, true, true, true, true, true, false] (i_ild 5 308)) := sd_msk _ (sd_iload dL_law_306 rfl)
theorem r12_308 : Sd gd_mt M12 308 (i_iceq 313 311) := sd_iceq dL_law_308 (by decide) rfl
theorem r12_311 : Sd gd_mt M12 311 (i_psh (.int 0) 312) := sd_iconst dL_law_311 (by decide) rfl
theorem r12_312 : Sd gd_mt M12 312 (i_zret) := sd_zret rfl dL_law_312
theorem r12_313 : Sd gd_mt M12 313 (i_ild 5 315) := sd_iload dL_law_313 rfl
theorem r12_315 : Sd gd_mt M12 315 (i_ifne 330 318) := sd_ifne dL_law_315 (by decide) rfl
theorem r12_318 : Sd gd_mt M12 318 (i_ald 3 319) := sd_aload_n dL_law_318 rfl rfl
theorem r12_319 : Sd gd_mt M12 319 (i_psh (.int 0) 320) := sd_iconst dL_law_319 (by decide) rfl
theorem r12_320 : Sd gd_mt M12 320 (i_aldJ 321) := sd_lald dL_law_320 rfl
theorem r12_321 : Sd gd_mt M12 321 (i_ild 6 323) := sd_iload dL_law_321 rfl
theorem r12_323 : Sd gd_mt M12 323 (i_i2l 324) := sd_i2l dL_law_323 rfl
theorem r12_324 : Sd gd_mt M12 324 (i_lcmp 325) := sd_lcmp dL_law_324 rfl
theorem r12_325 : Sd gd_mt M12 325 (i_ifeq 330 328) := sd_ifeq dL_law_325 (by decide) rfl
theorem r12_328 : Sd gd_mt M12 328 (i_psh (.int 0) 329) := sd_iconst dL_law_328 (by decide) rfl
theorem r12_329 : Sd gd_mt M12 329 (i_zret) := sd_zret rfl dL_law_329
theorem r12_330 : Sd gd_mt M12 330 (i_msk [true, true, true, true, true, false, false, false] (i_goto 2328)) := sd_msk _ (sd_goto dL_law_330 (by decide))
theorem r12_333 : Sd gd_mt M12 333 (i_ald 1 334) := sd_aload_n dL_law_333 rfl rfl
theorem r12_334 : Sd gd_mt M12 334 (i_ald 0 335) := sd_aload_n dL_law_334 rfl rfl
theorem r12_335 : Sd gd_mt M12 335 (i_ild 4 337) := sd_iload dL_law_335 rfl
theorem r12_337 : Sd gd_mt M12 337 (i_psh (.int 1) 338) := sd_iconst dL_law_337 (by decide) rfl
theorem r12_338 : Sd gd_mt M12 338 (i_iadd 339) := sd_iadd dL_law_338 rfl
theorem r12_339 : Sd gd_mt M12 339 (i_aldF 41 340) := sd_ialdF dL_law_339 rfl
theorem r12_340 : Sd gd_mt M12 340 (i_ald 3 341) := sd_aload_n dL_law_340 rfl rfl
theorem r12_341 : Sd gd_mt M12 341 (i_cS 14 3 344) := sd_cS2 e14 cal14 q773 q774 dL_law_341 rfl
theorem r12_344 : Sd gd_mt M12 344 (i_msk [true, true, true, true, true, false, false, false] (i_ist 5 346)) := sd_msk _ (sd_istore dL_law_344 (by decide) rfl)
theorem r12_346 : Sd gd_mt M12 346 (i_ald 2 347) := sd_aload_n dL_law_346 rfl rfl
theorem r12_347 : Sd gd_mt M12 347 (i_ald 0 348) := sd_aload_n dL_law_347 rfl rfl
theorem r12_348 : Sd gd_mt M12 348 (i_ild 4 350) := sd_iload dL_law_348 rfl
theorem r12_350 : Sd gd_mt M12 350 (i_psh (.int 1) 351) := sd_iconst dL_law_350 (by decide) rfl
theorem r12_351 : Sd gd_mt M12 351 (i_iadd 352) := sd_iadd dL_law_351 rfl
theorem r12_352 : Sd gd_mt M12 352 (i_aldF 41 353) := sd_ialdF dL_law_352 rfl
theorem r12_353 : Sd gd_mt M12 353 (i_cV 200 1 8 356) := sd_cV2 e200 cal200 q1709 q1710 (rfl : gd_cl 8 = some _) q1711 dL_law_353 rfl
theorem r12_356 : Sd gd_mt M12 356 (i_msk [true, true, true, true, true, true, false, false] (i_ist 6 358)) := sd_msk _ (sd_istore dL_law_356 (by decide) rfl)
theorem r12_358 : Sd gd_mt M12 358 (i_ald 2 359) := sd_aload_n dL_law_358 rfl rfl
theorem r12_359 : Sd gd_mt M12 359 (i_cV 175 0 8 362) := sd_cV2 e175 cal175 q1432 q1433 (rfl : gd_cl 8 = some _) q1434 dL_law_359 rfl
theorem r12_362 : Sd gd_mt M12 362 (i_msk [true, true, true, true, true, true, true, false] (i_ild 5 364)) := sd_msk _ (sd_iload dL_law_362 rfl)
theorem r12_364 : Sd gd_mt M12 364 (i_iceq 369 367) := sd_iceq dL_law_364 (by decide) rfl
theorem r12_367 : Sd gd_mt M12 367 (i_psh (.int 0) 368) := sd_iconst dL_law_367 (by decide) rfl
theorem r12_368 : Sd gd_mt M12 368 (i_zret) := sd_zret rfl dL_law_368
theorem r12_369 : Sd gd_mt M12 369 (i_ild 5 371) := sd_iload dL_law_369 rfl
theorem r12_371 : Sd gd_mt M12 371 (i_ifne 386 374) := sd_ifne dL_law_371 (by decide) rfl
theorem r12_374 : Sd gd_mt M12 374 (i_ald 3 375) := sd_aload_n dL_law_374 rfl rfl
theorem r12_375 : Sd gd_mt M12 375 (i_psh (.int 0) 376) := sd_iconst dL_law_375 (by decide) rfl
def cl12_2 : List (Nat × gd_I) := [(296, i_aldF 41 297), (297, i_cV 182 1 8 300), (300, i_msk [true, true, true, true, true, true, false, false] (i_ist 6 302)), (302, i_ald 2 303), (303, i_cV 175 0 8 306), (306, i_msk [true, true, true, true, true, true, true, false] (i_ild 5 308)), (308, i_iceq 313 311), (311, i_psh (.int 0) 312), (312, i_zret), (313, i_ild 5 315), (315, i_ifne 330 318), (318, i_ald 3 319), (319, i_psh (.int 0) 320), (320, i_aldJ 321), (321, i_ild 6 323), (323, i_i2l 324), (324, i_lcmp 325), (325, i_ifeq 330 328), (328, i_psh (.int 0) 329), (329, i_zret), (330, i_msk [true, true, true, true, true, false, false, false] (i_goto 2328)), (333, i_ald 1 334), (334, i_ald 0 335), (335, i_ild 4 337), (337, i_psh (.int 1) 338), (338, i_iadd 339), (339, i_aldF 41 340), (340, i_ald 3 341), (341, i_cS 14 3 344), (344, i_msk [true, true, true, true, true, false, false, false] (i_ist 5 346)), (346, i_ald 2 347), (347, i_ald 0 348), (348, i_ild 4 350), (350, i_psh (.int 1) 351), (351, i_iadd 352), (352, i_aldF 41 353), (353, i_cV 200 1 8 356), (356, i_msk [true, true, true, true, true, true, false, false] (i_ist 6 358)), (358, i_ald 2 359), (359, i_cV 175 0 8 362), (362, i_msk [true, true, true, true, true, true, true, false] (i_ild 5 364)), (364, i_iceq 369 367), (367, i_psh (.int 0) 368), (368, i_zret), (369, i_ild 5 371), (371, i_ifne 386 374), (374, i_ald 3 375), (375, i_psh (.int 0) 376)]
theorem cs12_2 : ∀ q ∈ cl12_2, Sd gd_mt M12 q.1 q.2 := gd_ac r12_296 (gd_ac r12_297 (gd_ac r12_300 (gd_ac r12_302 (gd_ac r12_303 (gd_ac r12_306 (gd_ac r12_308 (gd_ac r12_311 (gd_ac r12_312 (gd_ac r12_313 (gd_ac r12_315 (gd_ac r12_318 (gd_ac r12_319 (gd_ac r12_320 (gd_ac r12_321 (gd_ac r12_323 (gd_ac r12_324 (gd_ac r12_325 (gd_ac r12_328 (gd_ac r12_329 (gd_ac r12_330 (gd_ac r12_333 (gd_ac r12_334 (gd_ac r12_335 (gd_ac r12_337 (gd_ac r12_338 (gd_ac r12_339 (gd_ac r12_340 (gd_ac r12_341 (gd_ac r12_344 (gd_ac r12_346 (gd_ac r12_347 (gd_ac r12_348 (gd_ac r12_350 (gd_ac r12_351 (gd_ac r12_352 (gd_ac r12_353 (gd_ac r12_356 (gd_ac r12_358 (gd_ac r12_359 (gd_ac r12_362 (gd_ac r12_364 (gd_ac r12_367 (gd_ac r12_368 (gd_ac r12_369 (gd_ac r12_371 (gd_ac r12_374 (gd_ac r12_375 (gd_an))))))))))))))))))))))))))))))))))))))))))))))))
theorem r12_376 : Sd gd_mt M12 376 (i_aldJ 377) := sd_lald dL_law_376 rfl
theorem r12_377 : Sd gd_mt M12 377 (i_ild 6 379) := sd_iload dL_law_377 rfl
theorem r12_379 : Sd gd_mt M12 379 (i_i2l 380) := sd_i2l dL_law_379 rfl
theorem r12_380 : Sd gd_mt M12 380 (i_lcmp 381) := sd_lcmp dL_law_380 rfl
theorem r12_381 : Sd gd_mt M12 381 (i_ifeq 386 384) := sd_ifeq dL_law_381 (by decide) rfl
theorem r12_384 : Sd gd_mt M12 384 (i_psh (.int 0) 385) := sd_iconst dL_law_384 (by decide) rfl
theorem r12_385 : Sd gd_mt M12 385 (i_zret) := sd_zret rfl dL_law_385
theorem r12_386 : Sd gd_mt M12 386 (i_msk [true, true, true, true, true, false, false, false] (i_goto 2328)) := sd_msk _ (sd_goto dL_law_386 (by decide))
theorem r12_389 : Sd gd_mt M12 389 (i_ald 1 390) := sd_aload_n dL_law_389 rfl rfl
theorem r12_390 : Sd gd_mt M12 390 (i_ald 0 391) := sd_aload_n dL_law_390 rfl rfl
theorem r12_391 : Sd gd_mt M12 391 (i_ild 4 393) := sd_iload dL_law_391 rfl
theorem r12_393 : Sd gd_mt M12 393 (i_psh (.int 1) 394) := sd_iconst dL_law_393 (by decide) rfl
theorem r12_394 : Sd gd_mt M12 394 (i_iadd 395) := sd_iadd dL_law_394 rfl
theorem r12_395 : Sd gd_mt M12 395 (i_aldF 41 396) := sd_ialdF dL_law_395 rfl
theorem r12_396 : Sd gd_mt M12 396 (i_ald 3 397) := sd_aload_n dL_law_396 rfl rfl
theorem r12_397 : Sd gd_mt M12 397 (i_cS 15 3 400) := sd_cS2 e15 cal15 q879 q880 dL_law_397 rfl
theorem r12_400 : Sd gd_mt M12 400 (i_msk [true, true, true, true, true, false, false, false] (i_ist 5 402)) := sd_msk _ (sd_istore dL_law_400 (by decide) rfl)
theorem r12_402 : Sd gd_mt M12 402 (i_ald 2 403) := sd_aload_n dL_law_402 rfl rfl
theorem r12_403 : Sd gd_mt M12 403 (i_ald 0 404) := sd_aload_n dL_law_403 rfl rfl
theorem r12_404 : Sd gd_mt M12 404 (i_ild 4 406) := sd_iload dL_law_404 rfl
theorem r12_406 : Sd gd_mt M12 406 (i_psh (.int 1) 407) := sd_iconst dL_law_406 (by decide) rfl
theorem r12_407 : Sd gd_mt M12 407 (i_iadd 408) := sd_iadd dL_law_407 rfl
theorem r12_408 : Sd gd_mt M12 408 (i_aldF 41 409) := sd_ialdF dL_law_408 rfl
theorem r12_409 : Sd gd_mt M12 409 (i_cV 208 1 8 412) := sd_cV2 e208 cal208 q1748 q1749 (rfl : gd_cl 8 = some _) q1750 dL_law_409 rfl
theorem r12_412 : Sd gd_mt M12 412 (i_msk [true, true, true, true, true, true, false, false] (i_ist 6 414)) := sd_msk _ (sd_istore dL_law_412 (by decide) rfl)
theorem r12_414 : Sd gd_mt M12 414 (i_ald 2 415) := sd_aload_n dL_law_414 rfl rfl
theorem r12_415 : Sd gd_mt M12 415 (i_cV 175 0 8 418) := sd_cV2 e175 cal175 q1432 q1433 (rfl : gd_cl 8 = some _) q1434 dL_law_415 rfl
theorem r12_418 : Sd gd_mt M12 418 (i_msk [true, true, true, true, true, true, true, false] (i_ild 5 420)) := sd_msk _ (sd_iload dL_law_418 rfl)
theorem r12_420 : Sd gd_mt M12 420 (i_iceq 425 423) := sd_iceq dL_law_420 (by decide) rfl
theorem r12_423 : Sd gd_mt M12 423 (i_psh (.int 0) 424) := sd_iconst dL_law_423 (by decide) rfl
theorem r12_424 : Sd gd_mt M12 424 (i_zret) := sd_zret rfl dL_law_424
theorem r12_425 : Sd gd_mt M12 425 (i_ild 5 427) := sd_iload dL_law_425 rfl
theorem r12_427 : Sd gd_mt M12 427 (i_ifne 442 430) := sd_ifne dL_law_427 (by decide) rfl
theorem r12_430 : Sd gd_mt M12 430 (i_ald 3 431) := sd_aload_n dL_law_430 rfl rfl
theorem r12_431 : Sd gd_mt M12 431 (i_psh (.int 0) 432) := sd_iconst dL_law_431 (by decide) rfl
theorem r12_432 : Sd gd_mt M12 432 (i_aldJ 433) := sd_lald dL_law_432 rfl
theorem r12_433 : Sd gd_mt M12 433 (i_ild 6 435) := sd_iload dL_law_433 rfl
theorem r12_435 : Sd gd_mt M12 435 (i_i2l 436) := sd_i2l dL_law_435 rfl
theorem r12_436 : Sd gd_mt M12 436 (i_lcmp 437) := sd_lcmp dL_law_436 rfl
theorem r12_437 : Sd gd_mt M12 437 (i_ifeq 442 440) := sd_ifeq dL_law_437 (by decide) rfl
theorem r12_440 : Sd gd_mt M12 440 (i_psh (.int 0) 441) := sd_iconst dL_law_440 (by decide) rfl
theorem r12_441 : Sd gd_mt M12 441 (i_zret) := sd_zret rfl dL_law_441
theorem r12_442 : Sd gd_mt M12 442 (i_msk [true, true, true, true, true, false, false, false] (i_goto 2328)) := sd_msk _ (sd_goto dL_law_442 (by decide))
theorem r12_445 : Sd gd_mt M12 445 (i_ald 1 446) := sd_aload_n dL_law_445 rfl rfl
theorem r12_446 : Sd gd_mt M12 446 (i_ald 0 447) := sd_aload_n dL_law_446 rfl rfl
theorem r12_447 : Sd gd_mt M12 447 (i_ild 4 449) := sd_iload dL_law_447 rfl
theorem r12_449 : Sd gd_mt M12 449 (i_psh (.int 1) 450) := sd_iconst dL_law_449 (by decide) rfl
theorem r12_450 : Sd gd_mt M12 450 (i_iadd 451) := sd_iadd dL_law_450 rfl
def cl12_3 : List (Nat × gd_I) := [(376, i_aldJ 377), (377, i_ild 6 379), (379, i_i2l 380), (380, i_lcmp 381), (381, i_ifeq 386 384), (384, i_psh (.int 0) 385), (385, i_zret), (386, i_msk [true, true, true, true, true, false, false, false] (i_goto 2328)), (389, i_ald 1 390), (390, i_ald 0 391), (391, i_ild 4 393), (393, i_psh (.int 1) 394), (394, i_iadd 395), (395, i_aldF 41 396), (396, i_ald 3 397), (397, i_cS 15 3 400), (400, i_msk [true, true, true, true, true, false, false, false] (i_ist 5 402)), (402, i_ald 2 403), (403, i_ald 0 404), (404, i_ild 4 406), (406, i_psh (.int 1) 407), (407, i_iadd 408), (408, i_aldF 41 409), (409, i_cV 208 1 8 412), (412, i_msk [true, true, true, true, true, true, false, false] (i_ist 6 414)), (414, i_ald 2 415), (415, i_cV 175 0 8 418), (418, i_msk [true, true, true, true, true, true, true, false] (i_ild 5 420)), (420, i_iceq 425 423), (423, i_psh (.int 0) 424), (424, i_zret), (425, i_ild 5 427), (427, i_ifne 442 430), (430, i_ald 3 431), (431, i_psh (.int 0) 432), (432, i_aldJ 433), (433, i_ild 6 435), (435, i_i2l 436), (436, i_lcmp 437), (437, i_ifeq 442 440), (440, i_psh (.int 0) 441), (441, i_zret), (442, i_msk [true, true, true, true, true, false, false, false] (i_goto 2328)), (445, i_ald 1 446), (446, i_ald 0 447), (447, i_ild 4 449), (449, i_psh (.int 1) 450), (450, i_iadd 451)]
theorem cs12_3 : ∀ q ∈ cl12_3, Sd gd_mt M12 q.1 q.2 := gd_ac r12_376 (gd_ac r12_377 (gd_ac r12_379 (gd_ac r12_380 (gd_ac r12_381 (gd_ac r12_384 (gd_ac r12_385 (gd_ac r12_386 (gd_ac r12_389 (gd_ac r12_390 (gd_ac r12_391 (gd_ac r12_393 (gd_ac r12_394 (gd_ac r12_395 (gd_ac r12_396 (gd_ac r12_397 (gd_ac r12_400 (gd_ac r12_402 (gd_ac r12_403 (gd_ac r12_404 (gd_ac r12_406 (gd_ac r12_407 (gd_ac r12_408 (gd_ac r12_409 (gd_ac r12_412 (gd_ac r12_414 (gd_ac r12_415 (gd_ac r12_418 (gd_ac r12_420 (gd_ac r12_423 (gd_ac r12_424 (gd_ac r12_425 (gd_ac r12_427 (gd_ac r12_430 (gd_ac r12_431 (gd_ac r12_432 (gd_ac r12_433 (gd_ac r12_435 (gd_ac r12_436 (gd_ac r12_437 (gd_ac r12_440 (gd_ac r12_441 (gd_ac r12_442 (gd_ac r12_445 (gd_ac r12_446 (gd_ac r12_447 (gd_ac r12_449 (gd_ac r12_450 (gd_an))))))))))))))))))))))))))))))))))))))))))))))))
theorem r12_451 : Sd gd_mt M12 451 (i_aldF 41 452) := sd_ialdF dL_law_451 rfl
theorem r12_452 : Sd gd_mt M12 452 (i_ald 3 453) := sd_aload_n dL_law_452 rfl rfl
theorem r12_453 : Sd gd_mt M12 453 (i_cS 16 3 456) := sd_cS2 e16 cal16 q1157 q1158 dL_law_453 rfl
theorem r12_456 : Sd gd_mt M12 456 (i_msk [true, true, true, true, true, false, false, false] (i_ist 5 458)) := sd_msk _ (sd_istore dL_law_456 (by decide) rfl)
theorem r12_458 : Sd gd_mt M12 458 (i_ald 2 459) := sd_aload_n dL_law_458 rfl rfl
theorem r12_459 : Sd gd_mt M12 459 (i_ald 0 460) := sd_aload_n dL_law_459 rfl rfl
theorem r12_460 : Sd gd_mt M12 460 (i_ild 4 462) := sd_iload dL_law_460 rfl
theorem r12_462 : Sd gd_mt M12 462 (i_psh (.int 1) 463) := sd_iconst dL_law_462 (by decide) rfl
theorem r12_463 : Sd gd_mt M12 463 (i_iadd 464) := sd_iadd dL_law_463 rfl
theorem r12_464 : Sd gd_mt M12 464 (i_aldF 41 465) := sd_ialdF dL_law_464 rfl
theorem r12_465 : Sd gd_mt M12 465 (i_cV 230 1 8 468) := sd_cV2 e230 cal230 q1841 q1842 (rfl : gd_cl 8 = some _) q1843 dL_law_465 rfl
theorem r12_468 : Sd gd_mt M12 468 (i_msk [true, true, true, true, true, true, false, false] (i_ist 6 470)) := sd_msk _ (sd_istore dL_law_468 (by decide) rfl)
theorem r12_470 : Sd gd_mt M12 470 (i_ald 2 471) := sd_aload_n dL_law_470 rfl rfl
theorem r12_471 : Sd gd_mt M12 471 (i_cV 175 0 8 474) := sd_cV2 e175 cal175 q1432 q1433 (rfl : gd_cl 8 = some _) q1434 dL_law_471 rfl
theorem r12_474 : Sd gd_mt M12 474 (i_msk [true, true, true, true, true, true, true, false] (i_ild 5 476)) := sd_msk _ (sd_iload dL_law_474 rfl)
theorem r12_476 : Sd gd_mt M12 476 (i_iceq 481 479) := sd_iceq dL_law_476 (by decide) rfl
theorem r12_479 : Sd gd_mt M12 479 (i_psh (.int 0) 480) := sd_iconst dL_law_479 (by decide) rfl
theorem r12_480 : Sd gd_mt M12 480 (i_zret) := sd_zret rfl dL_law_480
theorem r12_481 : Sd gd_mt M12 481 (i_ild 5 483) := sd_iload dL_law_481 rfl
theorem r12_483 : Sd gd_mt M12 483 (i_ifne 498 486) := sd_ifne dL_law_483 (by decide) rfl
theorem r12_486 : Sd gd_mt M12 486 (i_ald 3 487) := sd_aload_n dL_law_486 rfl rfl
theorem r12_487 : Sd gd_mt M12 487 (i_psh (.int 0) 488) := sd_iconst dL_law_487 (by decide) rfl
theorem r12_488 : Sd gd_mt M12 488 (i_aldJ 489) := sd_lald dL_law_488 rfl
theorem r12_489 : Sd gd_mt M12 489 (i_ild 6 491) := sd_iload dL_law_489 rfl
theorem r12_491 : Sd gd_mt M12 491 (i_i2l 492) := sd_i2l dL_law_491 rfl
theorem r12_492 : Sd gd_mt M12 492 (i_lcmp 493) := sd_lcmp dL_law_492 rfl
theorem r12_493 : Sd gd_mt M12 493 (i_ifeq 498 496) := sd_ifeq dL_law_493 (by decide) rfl
theorem r12_496 : Sd gd_mt M12 496 (i_psh (.int 0) 497) := sd_iconst dL_law_496 (by decide) rfl
theorem r12_497 : Sd gd_mt M12 497 (i_zret) := sd_zret rfl dL_law_497
theorem r12_498 : Sd gd_mt M12 498 (i_msk [true, true, true, true, true, false, false, false] (i_goto 2328)) := sd_msk _ (sd_goto dL_law_498 (by decide))
theorem r12_501 : Sd gd_mt M12 501 (i_ald 1 502) := sd_aload_n dL_law_501 rfl rfl
theorem r12_502 : Sd gd_mt M12 502 (i_cV 43 0 1 505) := sd_cV2 e43 cal43 q431 q432 (rfl : gd_cl 1 = some _) q433 dL_law_502 rfl
theorem r12_505 : Sd gd_mt M12 505 (i_msk [true, true, true, true, true, false, false, false] (i_ald 2 506)) := sd_msk _ (sd_aload_n dL_law_505 rfl rfl)
theorem r12_506 : Sd gd_mt M12 506 (i_cV 181 0 8 509) := sd_cV2 e181 cal181 q1631 q1632 (rfl : gd_cl 8 = some _) q1633 dL_law_506 rfl
theorem r12_509 : Sd gd_mt M12 509 (i_msk [true, true, true, true, true, false, false, false] (i_iceq 2328 512)) := sd_msk _ (sd_iceq dL_law_509 (by decide) rfl)
theorem r12_512 : Sd gd_mt M12 512 (i_psh (.int 0) 513) := sd_iconst dL_law_512 (by decide) rfl
theorem r12_513 : Sd gd_mt M12 513 (i_zret) := sd_zret rfl dL_law_513
theorem r12_514 : Sd gd_mt M12 514 (i_ald 1 515) := sd_aload_n dL_law_514 rfl rfl
theorem r12_515 : Sd gd_mt M12 515 (i_cV 44 0 1 518) := sd_cV2 e44 cal44 q435 q436 (rfl : gd_cl 1 = some _) q437 dL_law_515 rfl
theorem r12_518 : Sd gd_mt M12 518 (i_msk [true, true, true, true, true, false, false, false] (i_ald 2 519)) := sd_msk _ (sd_aload_n dL_law_518 rfl rfl)
theorem r12_519 : Sd gd_mt M12 519 (i_cV 231 0 8 522) := sd_cV2 e231 cal231 q1845 q1846 (rfl : gd_cl 8 = some _) q1847 dL_law_519 rfl
theorem r12_522 : Sd gd_mt M12 522 (i_msk [true, true, true, true, true, false, false, false] (i_iceq 2328 525)) := sd_msk _ (sd_iceq dL_law_522 (by decide) rfl)
theorem r12_525 : Sd gd_mt M12 525 (i_psh (.int 0) 526) := sd_iconst dL_law_525 (by decide) rfl
theorem r12_526 : Sd gd_mt M12 526 (i_zret) := sd_zret rfl dL_law_526
theorem r12_527 : Sd gd_mt M12 527 (i_ald 1 528) := sd_aload_n dL_law_527 rfl rfl
theorem r12_528 : Sd gd_mt M12 528 (i_ald 0 529) := sd_aload_n dL_law_528 rfl rfl
theorem r12_529 : Sd gd_mt M12 529 (i_ild 4 531) := sd_iload dL_law_529 rfl
theorem r12_531 : Sd gd_mt M12 531 (i_psh (.int 1) 532) := sd_iconst dL_law_531 (by decide) rfl
def cl12_4 : List (Nat × gd_I) := [(451, i_aldF 41 452), (452, i_ald 3 453), (453, i_cS 16 3 456), (456, i_msk [true, true, true, true, true, false, false, false] (i_ist 5 458)), (458, i_ald 2 459), (459, i_ald 0 460), (460, i_ild 4 462), (462, i_psh (.int 1) 463), (463, i_iadd 464), (464, i_aldF 41 465), (465, i_cV 230 1 8 468), (468, i_msk [true, true, true, true, true, true, false, false] (i_ist 6 470)), (470, i_ald 2 471), (471, i_cV 175 0 8 474), (474, i_msk [true, true, true, true, true, true, true, false] (i_ild 5 476)), (476, i_iceq 481 479), (479, i_psh (.int 0) 480), (480, i_zret), (481, i_ild 5 483), (483, i_ifne 498 486), (486, i_ald 3 487), (487, i_psh (.int 0) 488), (488, i_aldJ 489), (489, i_ild 6 491), (491, i_i2l 492), (492, i_lcmp 493), (493, i_ifeq 498 496), (496, i_psh (.int 0) 497), (497, i_zret), (498, i_msk [true, true, true, true, true, false, false, false] (i_goto 2328)), (501, i_ald 1 502), (502, i_cV 43 0 1 505), (505, i_msk [true, true, true, true, true, false, false, false] (i_ald 2 506)), (506, i_cV 181 0 8 509), (509, i_msk [true, true, true, true, true, false, false, false] (i_iceq 2328 512)), (512, i_psh (.int 0) 513), (513, i_zret), (514, i_ald 1 515), (515, i_cV 44 0 1 518), (518, i_msk [true, true, true, true, true, false, false, false] (i_ald 2 519)), (519, i_cV 231 0 8 522), (522, i_msk [true, true, true, true, true, false, false, false] (i_iceq 2328 525)), (525, i_psh (.int 0) 526), (526, i_zret), (527, i_ald 1 528), (528, i_ald 0 529), (529, i_ild 4 531), (531, i_psh (.int 1) 532)]
theorem cs12_4 : ∀ q ∈ cl12_4, Sd gd_mt M12 q.1 q.2 := gd_ac r12_451 (gd_ac r12_452 (gd_ac r12_453 (gd_ac r12_456 (gd_ac r12_458 (gd_ac r12_459 (gd_ac r12_460 (gd_ac r12_462 (gd_ac r12_463 (gd_ac r12_464 (gd_ac r12_465 (gd_ac r12_468 (gd_ac r12_470 (gd_ac r12_471 (gd_ac r12_474 (gd_ac r12_476 (gd_ac r12_479 (gd_ac r12_480 (gd_ac r12_481 (gd_ac r12_483 (gd_ac r12_486 (gd_ac r12_487 (gd_ac r12_488 (gd_ac r12_489 (gd_ac r12_491 (gd_ac r12_492 (gd_ac r12_493 (gd_ac r12_496 (gd_ac r12_497 (gd_ac r12_498 (gd_ac r12_501 (gd_ac r12_502 (gd_ac r12_505 (gd_ac r12_506 (gd_ac r12_509 (gd_ac r12_512 (gd_ac r12_513 (gd_ac r12_514 (gd_ac r12_515 (gd_ac r12_518 (gd_ac r12_519 (gd_ac r12_522 (gd_ac r12_525 (gd_ac r12_526 (gd_ac r12_527 (gd_ac r12_528 (gd_ac r12_529 (gd_ac r12_531 (gd_an))))))))))))))))))))))))))))))))))))))))))))))))
theorem r12_532 : Sd gd_mt M12 532 (i_iadd 533) := sd_iadd dL_law_532 rfl
theorem r12_533 : Sd gd_mt M12 533 (i_aldF 41 534) := sd_ialdF dL_law_533 rfl
theorem r12_534 : Sd gd_mt M12 534 (i_ald 3 535) := sd_aload_n dL_law_534 rfl rfl
theorem r12_535 : Sd gd_mt M12 535 (i_cS 17 3 538) := sd_cS2 e17 cal17 q1170 q1171 dL_law_535 rfl
theorem r12_538 : Sd gd_mt M12 538 (i_msk [true, true, true, true, true, false, false, false] (i_ist 5 540)) := sd_msk _ (sd_istore dL_law_538 (by decide) rfl)
theorem r12_540 : Sd gd_mt M12 540 (i_ald 2 541) := sd_aload_n dL_law_540 rfl rfl
theorem r12_541 : Sd gd_mt M12 541 (i_ald 0 542) := sd_aload_n dL_law_541 rfl rfl
theorem r12_542 : Sd gd_mt M12 542 (i_ild 4 544) := sd_iload dL_law_542 rfl
theorem r12_544 : Sd gd_mt M12 544 (i_psh (.int 1) 545) := sd_iconst dL_law_544 (by decide) rfl
theorem r12_545 : Sd gd_mt M12 545 (i_iadd 546) := sd_iadd dL_law_545 rfl
theorem r12_546 : Sd gd_mt M12 546 (i_aldF 41 547) := sd_ialdF dL_law_546 rfl
theorem r12_547 : Sd gd_mt M12 547 (i_cV 232 1 8 550) := sd_cV2 e232 cal232 q1849 q1850 (rfl : gd_cl 8 = some _) q1851 dL_law_547 rfl
theorem r12_550 : Sd gd_mt M12 550 (i_msk [true, true, true, true, true, true, false, false] (i_ist 6 552)) := sd_msk _ (sd_istore dL_law_550 (by decide) rfl)
theorem r12_552 : Sd gd_mt M12 552 (i_ald 2 553) := sd_aload_n dL_law_552 rfl rfl
theorem r12_553 : Sd gd_mt M12 553 (i_cV 175 0 8 556) := sd_cV2 e175 cal175 q1432 q1433 (rfl : gd_cl 8 = some _) q1434 dL_law_553 rfl
theorem r12_556 : Sd gd_mt M12 556 (i_msk [true, true, true, true, true, true, true, false] (i_ild 5 558)) := sd_msk _ (sd_iload dL_law_556 rfl)
theorem r12_558 : Sd gd_mt M12 558 (i_iceq 563 561) := sd_iceq dL_law_558 (by decide) rfl
theorem r12_561 : Sd gd_mt M12 561 (i_psh (.int 0) 562) := sd_iconst dL_law_561 (by decide) rfl
theorem r12_562 : Sd gd_mt M12 562 (i_zret) := sd_zret rfl dL_law_562
theorem r12_563 : Sd gd_mt M12 563 (i_ild 5 565) := sd_iload dL_law_563 rfl
theorem r12_565 : Sd gd_mt M12 565 (i_ifne 580 568) := sd_ifne dL_law_565 (by decide) rfl
theorem r12_568 : Sd gd_mt M12 568 (i_ald 3 569) := sd_aload_n dL_law_568 rfl rfl
theorem r12_569 : Sd gd_mt M12 569 (i_psh (.int 0) 570) := sd_iconst dL_law_569 (by decide) rfl
theorem r12_570 : Sd gd_mt M12 570 (i_aldJ 571) := sd_lald dL_law_570 rfl
theorem r12_571 : Sd gd_mt M12 571 (i_ild 6 573) := sd_iload dL_law_571 rfl
theorem r12_573 : Sd gd_mt M12 573 (i_i2l 574) := sd_i2l dL_law_573 rfl
theorem r12_574 : Sd gd_mt M12 574 (i_lcmp 575) := sd_lcmp dL_law_574 rfl
theorem r12_575 : Sd gd_mt M12 575 (i_ifeq 580 578) := sd_ifeq dL_law_575 (by decide) rfl
theorem r12_578 : Sd gd_mt M12 578 (i_psh (.int 0) 579) := sd_iconst dL_law_578 (by decide) rfl
theorem r12_579 : Sd gd_mt M12 579 (i_zret) := sd_zret rfl dL_law_579
theorem r12_580 : Sd gd_mt M12 580 (i_msk [true, true, true, true, true, false, false, false] (i_goto 2328)) := sd_msk _ (sd_goto dL_law_580 (by decide))
theorem r12_583 : Sd gd_mt M12 583 (i_ald 1 584) := sd_aload_n dL_law_583 rfl rfl
theorem r12_584 : Sd gd_mt M12 584 (i_ald 0 585) := sd_aload_n dL_law_584 rfl rfl
theorem r12_585 : Sd gd_mt M12 585 (i_ild 4 587) := sd_iload dL_law_585 rfl
theorem r12_587 : Sd gd_mt M12 587 (i_psh (.int 1) 588) := sd_iconst dL_law_587 (by decide) rfl
theorem r12_588 : Sd gd_mt M12 588 (i_iadd 589) := sd_iadd dL_law_588 rfl
theorem r12_589 : Sd gd_mt M12 589 (i_aldF 41 590) := sd_ialdF dL_law_589 rfl
theorem r12_590 : Sd gd_mt M12 590 (i_ald 0 591) := sd_aload_n dL_law_590 rfl rfl
theorem r12_591 : Sd gd_mt M12 591 (i_ild 4 593) := sd_iload dL_law_591 rfl
theorem r12_593 : Sd gd_mt M12 593 (i_psh (.int 2) 594) := sd_iconst dL_law_593 (by decide) rfl
theorem r12_594 : Sd gd_mt M12 594 (i_iadd 595) := sd_iadd dL_law_594 rfl
theorem r12_595 : Sd gd_mt M12 595 (i_aldF 41 596) := sd_ialdF dL_law_595 rfl
theorem r12_596 : Sd gd_mt M12 596 (i_ald 3 597) := sd_aload_n dL_law_596 rfl rfl
theorem r12_597 : Sd gd_mt M12 597 (i_cS 18 4 600) := sd_cS2 e18 cal18 q1184 q1185 dL_law_597 rfl
theorem r12_600 : Sd gd_mt M12 600 (i_msk [true, true, true, true, true, false, false, false] (i_ist 5 602)) := sd_msk _ (sd_istore dL_law_600 (by decide) rfl)
theorem r12_602 : Sd gd_mt M12 602 (i_ald 2 603) := sd_aload_n dL_law_602 rfl rfl
theorem r12_603 : Sd gd_mt M12 603 (i_ald 0 604) := sd_aload_n dL_law_603 rfl rfl
theorem r12_604 : Sd gd_mt M12 604 (i_ild 4 606) := sd_iload dL_law_604 rfl
def cl12_5 : List (Nat × gd_I) := [(532, i_iadd 533), (533, i_aldF 41 534), (534, i_ald 3 535), (535, i_cS 17 3 538), (538, i_msk [true, true, true, true, true, false, false, false] (i_ist 5 540)), (540, i_ald 2 541), (541, i_ald 0 542), (542, i_ild 4 544), (544, i_psh (.int 1) 545), (545, i_iadd 546), (546, i_aldF 41 547), (547, i_cV 232 1 8 550), (550, i_msk [true, true, true, true, true, true, false, false] (i_ist 6 552)), (552, i_ald 2 553), (553, i_cV 175 0 8 556), (556, i_msk [true, true, true, true, true, true, true, false] (i_ild 5 558)), (558, i_iceq 563 561), (561, i_psh (.int 0) 562), (562, i_zret), (563, i_ild 5 565), (565, i_ifne 580 568), (568, i_ald 3 569), (569, i_psh (.int 0) 570), (570, i_aldJ 571), (571, i_ild 6 573), (573, i_i2l 574), (574, i_lcmp 575), (575, i_ifeq 580 578), (578, i_psh (.int 0) 579), (579, i_zret), (580, i_msk [true, true, true, true, true, false, false, false] (i_goto 2328)), (583, i_ald 1 584), (584, i_ald 0 585), (585, i_ild 4 587), (587, i_psh (.int 1) 588), (588, i_iadd 589), (589, i_aldF 41 590), (590, i_ald 0 591), (591, i_ild 4 593), (593, i_psh (.int 2) 594), (594, i_iadd 595), (595, i_aldF 41 596), (596, i_ald 3 597), (597, i_cS 18 4 600), (600, i_msk [true, true, true, true, true, false, false, false] (i_ist 5 602)), (602, i_ald 2 603), (603, i_ald 0 604), (604, i_ild 4 606)]
theorem cs12_5 : ∀ q ∈ cl12_5, Sd gd_mt M12 q.1 q.2 := gd_ac r12_532 (gd_ac r12_533 (gd_ac r12_534 (gd_ac r12_535 (gd_ac r12_538 (gd_ac r12_540 (gd_ac r12_541 (gd_ac r12_542 (gd_ac r12_544 (gd_ac r12_545 (gd_ac r12_546 (gd_ac r12_547 (gd_ac r12_550 (gd_ac r12_552 (gd_ac r12_553 (gd_ac r12_556 (gd_ac r12_558 (gd_ac r12_561 (gd_ac r12_562 (gd_ac r12_563 (gd_ac r12_565 (gd_ac r12_568 (gd_ac r12_569 (gd_ac r12_570 (gd_ac r12_571 (gd_ac r12_573 (gd_ac r12_574 (gd_ac r12_575 (gd_ac r12_578 (gd_ac r12_579 (gd_ac r12_580 (gd_ac r12_583 (gd_ac r12_584 (gd_ac r12_585 (gd_ac r12_587 (gd_ac r12_588 (gd_ac r12_589 (gd_ac r12_590 (gd_ac r12_591 (gd_ac r12_593 (gd_ac r12_594 (gd_ac r12_595 (gd_ac r12_596 (gd_ac r12_597 (gd_ac r12_600 (gd_ac r12_602 (gd_ac r12_603 (gd_ac r12_604 (gd_an))))))))))))))))))))))))))))))))))))))))))))))))
theorem r12_606 : Sd gd_mt M12 606 (i_psh (.int 1) 607) := sd_iconst dL_law_606 (by decide) rfl
theorem r12_607 : Sd gd_mt M12 607 (i_iadd 608) := sd_iadd dL_law_607 rfl
theorem r12_608 : Sd gd_mt M12 608 (i_aldF 41 609) := sd_ialdF dL_law_608 rfl
theorem r12_609 : Sd gd_mt M12 609 (i_ald 0 610) := sd_aload_n dL_law_609 rfl rfl
theorem r12_610 : Sd gd_mt M12 610 (i_ild 4 612) := sd_iload dL_law_610 rfl
theorem r12_612 : Sd gd_mt M12 612 (i_psh (.int 2) 613) := sd_iconst dL_law_612 (by decide) rfl
theorem r12_613 : Sd gd_mt M12 613 (i_iadd 614) := sd_iadd dL_law_613 rfl
theorem r12_614 : Sd gd_mt M12 614 (i_aldF 41 615) := sd_ialdF dL_law_614 rfl
theorem r12_615 : Sd gd_mt M12 615 (i_cV 236 2 8 618) := sd_cV2 e236 cal236 q1864 q1865 (rfl : gd_cl 8 = some _) q1866 dL_law_615 rfl
theorem r12_618 : Sd gd_mt M12 618 (i_msk [true, true, true, true, true, true, false, false] (i_ist 6 620)) := sd_msk _ (sd_istore dL_law_618 (by decide) rfl)
theorem r12_620 : Sd gd_mt M12 620 (i_ald 2 621) := sd_aload_n dL_law_620 rfl rfl
theorem r12_621 : Sd gd_mt M12 621 (i_cV 175 0 8 624) := sd_cV2 e175 cal175 q1432 q1433 (rfl : gd_cl 8 = some _) q1434 dL_law_621 rfl
theorem r12_624 : Sd gd_mt M12 624 (i_msk [true, true, true, true, true, true, true, false] (i_ild 5 626)) := sd_msk _ (sd_iload dL_law_624 rfl)
theorem r12_626 : Sd gd_mt M12 626 (i_iceq 631 629) := sd_iceq dL_law_626 (by decide) rfl
theorem r12_629 : Sd gd_mt M12 629 (i_psh (.int 0) 630) := sd_iconst dL_law_629 (by decide) rfl
theorem r12_630 : Sd gd_mt M12 630 (i_zret) := sd_zret rfl dL_law_630
theorem r12_631 : Sd gd_mt M12 631 (i_ild 5 633) := sd_iload dL_law_631 rfl
theorem r12_633 : Sd gd_mt M12 633 (i_ifne 648 636) := sd_ifne dL_law_633 (by decide) rfl
theorem r12_636 : Sd gd_mt M12 636 (i_ald 3 637) := sd_aload_n dL_law_636 rfl rfl
theorem r12_637 : Sd gd_mt M12 637 (i_psh (.int 0) 638) := sd_iconst dL_law_637 (by decide) rfl
theorem r12_638 : Sd gd_mt M12 638 (i_aldJ 639) := sd_lald dL_law_638 rfl
theorem r12_639 : Sd gd_mt M12 639 (i_ild 6 641) := sd_iload dL_law_639 rfl
theorem r12_641 : Sd gd_mt M12 641 (i_i2l 642) := sd_i2l dL_law_641 rfl
theorem r12_642 : Sd gd_mt M12 642 (i_lcmp 643) := sd_lcmp dL_law_642 rfl
theorem r12_643 : Sd gd_mt M12 643 (i_ifeq 648 646) := sd_ifeq dL_law_643 (by decide) rfl
theorem r12_646 : Sd gd_mt M12 646 (i_psh (.int 0) 647) := sd_iconst dL_law_646 (by decide) rfl
theorem r12_647 : Sd gd_mt M12 647 (i_zret) := sd_zret rfl dL_law_647
theorem r12_648 : Sd gd_mt M12 648 (i_msk [true, true, true, true, true, false, false, false] (i_goto 2328)) := sd_msk _ (sd_goto dL_law_648 (by decide))
theorem r12_651 : Sd gd_mt M12 651 (i_ald 1 652) := sd_aload_n dL_law_651 rfl rfl
theorem r12_652 : Sd gd_mt M12 652 (i_ald 0 653) := sd_aload_n dL_law_652 rfl rfl
theorem r12_653 : Sd gd_mt M12 653 (i_ild 4 655) := sd_iload dL_law_653 rfl
theorem r12_655 : Sd gd_mt M12 655 (i_psh (.int 1) 656) := sd_iconst dL_law_655 (by decide) rfl
theorem r12_656 : Sd gd_mt M12 656 (i_iadd 657) := sd_iadd dL_law_656 rfl
theorem r12_657 : Sd gd_mt M12 657 (i_aldF 41 658) := sd_ialdF dL_law_657 rfl
theorem r12_658 : Sd gd_mt M12 658 (i_ald 0 659) := sd_aload_n dL_law_658 rfl rfl
theorem r12_659 : Sd gd_mt M12 659 (i_ild 4 661) := sd_iload dL_law_659 rfl
theorem r12_661 : Sd gd_mt M12 661 (i_psh (.int 2) 662) := sd_iconst dL_law_661 (by decide) rfl
theorem r12_662 : Sd gd_mt M12 662 (i_iadd 663) := sd_iadd dL_law_662 rfl
theorem r12_663 : Sd gd_mt M12 663 (i_aldF 41 664) := sd_ialdF dL_law_663 rfl
theorem r12_664 : Sd gd_mt M12 664 (i_ald 3 665) := sd_aload_n dL_law_664 rfl rfl
theorem r12_665 : Sd gd_mt M12 665 (i_cS 19 4 668) := sd_cS2 e19 cal19 q1216 q1217 dL_law_665 rfl
theorem r12_668 : Sd gd_mt M12 668 (i_msk [true, true, true, true, true, false, false, false] (i_ist 5 670)) := sd_msk _ (sd_istore dL_law_668 (by decide) rfl)
theorem r12_670 : Sd gd_mt M12 670 (i_ald 2 671) := sd_aload_n dL_law_670 rfl rfl
theorem r12_671 : Sd gd_mt M12 671 (i_ald 0 672) := sd_aload_n dL_law_671 rfl rfl
theorem r12_672 : Sd gd_mt M12 672 (i_ild 4 674) := sd_iload dL_law_672 rfl
theorem r12_674 : Sd gd_mt M12 674 (i_psh (.int 1) 675) := sd_iconst dL_law_674 (by decide) rfl
theorem r12_675 : Sd gd_mt M12 675 (i_iadd 676) := sd_iadd dL_law_675 rfl
theorem r12_676 : Sd gd_mt M12 676 (i_aldF 41 677) := sd_ialdF dL_law_676 rfl
def cl12_6 : List (Nat × gd_I) := [(606, i_psh (.int 1) 607), (607, i_iadd 608), (608, i_aldF 41 609), (609, i_ald 0 610), (610, i_ild 4 612), (612, i_psh (.int 2) 613), (613, i_iadd 614), (614, i_aldF 41 615), (615, i_cV 236 2 8 618), (618, i_msk [true, true, true, true, true, true, false, false] (i_ist 6 620)), (620, i_ald 2 621), (621, i_cV 175 0 8 624), (624, i_msk [true, true, true, true, true, true, true, false] (i_ild 5 626)), (626, i_iceq 631 629), (629, i_psh (.int 0) 630), (630, i_zret), (631, i_ild 5 633), (633, i_ifne 648 636), (636, i_ald 3 637), (637, i_psh (.int 0) 638), (638, i_aldJ 639), (639, i_ild 6 641), (641, i_i2l 642), (642, i_lcmp 643), (643, i_ifeq 648 646), (646, i_psh (.int 0) 647), (647, i_zret), (648, i_msk [true, true, true, true, true, false, false, false] (i_goto 2328)), (651, i_ald 1 652), (652, i_ald 0 653), (653, i_ild 4 655), (655, i_psh (.int 1) 656), (656, i_iadd 657), (657, i_aldF 41 658), (658, i_ald 0 659), (659, i_ild 4 661), (661, i_psh (.int 2) 662), (662, i_iadd 663), (663, i_aldF 41 664), (664, i_ald 3 665), (665, i_cS 19 4 668), (668, i_msk [true, true, true, true, true, false, false, false] (i_ist 5 670)), (670, i_ald 2 671), (671, i_ald 0 672), (672, i_ild 4 674), (674, i_psh (.int 1) 675), (675, i_iadd 676), (676, i_aldF 41 677)]
theorem cs12_6 : ∀ q ∈ cl12_6, Sd gd_mt M12 q.1 q.2 := gd_ac r12_606 (gd_ac r12_607 (gd_ac r12_608 (gd_ac r12_609 (gd_ac r12_610 (gd_ac r12_612 (gd_ac r12_613 (gd_ac r12_614 (gd_ac r12_615 (gd_ac r12_618 (gd_ac r12_620 (gd_ac r12_621 (gd_ac r12_624 (gd_ac r12_626 (gd_ac r12_629 (gd_ac r12_630 (gd_ac r12_631 (gd_ac r12_633 (gd_ac r12_636 (gd_ac r12_637 (gd_ac r12_638 (gd_ac r12_639 (gd_ac r12_641 (gd_ac r12_642 (gd_ac r12_643 (gd_ac r12_646 (gd_ac r12_647 (gd_ac r12_648 (gd_ac r12_651 (gd_ac r12_652 (gd_ac r12_653 (gd_ac r12_655 (gd_ac r12_656 (gd_ac r12_657 (gd_ac r12_658 (gd_ac r12_659 (gd_ac r12_661 (gd_ac r12_662 (gd_ac r12_663 (gd_ac r12_664 (gd_ac r12_665 (gd_ac r12_668 (gd_ac r12_670 (gd_ac r12_671 (gd_ac r12_672 (gd_ac r12_674 (gd_ac r12_675 (gd_ac r12_676 (gd_an))))))))))))))))))))))))))))))))))))))))))))))))
theorem r12_677 : Sd gd_mt M12 677 (i_ald 0 678) := sd_aload_n dL_law_677 rfl rfl
theorem r12_678 : Sd gd_mt M12 678 (i_ild 4 680) := sd_iload dL_law_678 rfl
theorem r12_680 : Sd gd_mt M12 680 (i_psh (.int 2) 681) := sd_iconst dL_law_680 (by decide) rfl
theorem r12_681 : Sd gd_mt M12 681 (i_iadd 682) := sd_iadd dL_law_681 rfl
theorem r12_682 : Sd gd_mt M12 682 (i_aldF 41 683) := sd_ialdF dL_law_682 rfl
theorem r12_683 : Sd gd_mt M12 683 (i_cV 238 2 8 686) := sd_cV2 e238 cal238 q1872 q1873 (rfl : gd_cl 8 = some _) q1874 dL_law_683 rfl
theorem r12_686 : Sd gd_mt M12 686 (i_msk [true, true, true, true, true, true, false, false] (i_ist 6 688)) := sd_msk _ (sd_istore dL_law_686 (by decide) rfl)
theorem r12_688 : Sd gd_mt M12 688 (i_ald 2 689) := sd_aload_n dL_law_688 rfl rfl
theorem r12_689 : Sd gd_mt M12 689 (i_cV 175 0 8 692) := sd_cV2 e175 cal175 q1432 q1433 (rfl : gd_cl 8 = some _) q1434 dL_law_689 rfl
theorem r12_692 : Sd gd_mt M12 692 (i_msk [true, true, true, true, true, true, true, false] (i_ild 5 694)) := sd_msk _ (sd_iload dL_law_692 rfl)
theorem r12_694 : Sd gd_mt M12 694 (i_iceq 699 697) := sd_iceq dL_law_694 (by decide) rfl
theorem r12_697 : Sd gd_mt M12 697 (i_psh (.int 0) 698) := sd_iconst dL_law_697 (by decide) rfl
theorem r12_698 : Sd gd_mt M12 698 (i_zret) := sd_zret rfl dL_law_698
theorem r12_699 : Sd gd_mt M12 699 (i_ild 5 701) := sd_iload dL_law_699 rfl
theorem r12_701 : Sd gd_mt M12 701 (i_ifne 716 704) := sd_ifne dL_law_701 (by decide) rfl
theorem r12_704 : Sd gd_mt M12 704 (i_ald 3 705) := sd_aload_n dL_law_704 rfl rfl
theorem r12_705 : Sd gd_mt M12 705 (i_psh (.int 0) 706) := sd_iconst dL_law_705 (by decide) rfl
theorem r12_706 : Sd gd_mt M12 706 (i_aldJ 707) := sd_lald dL_law_706 rfl
theorem r12_707 : Sd gd_mt M12 707 (i_ild 6 709) := sd_iload dL_law_707 rfl
theorem r12_709 : Sd gd_mt M12 709 (i_i2l 710) := sd_i2l dL_law_709 rfl
theorem r12_710 : Sd gd_mt M12 710 (i_lcmp 711) := sd_lcmp dL_law_710 rfl
theorem r12_711 : Sd gd_mt M12 711 (i_ifeq 716 714) := sd_ifeq dL_law_711 (by decide) rfl
theorem r12_714 : Sd gd_mt M12 714 (i_psh (.int 0) 715) := sd_iconst dL_law_714 (by decide) rfl
theorem r12_715 : Sd gd_mt M12 715 (i_zret) := sd_zret rfl dL_law_715
theorem r12_716 : Sd gd_mt M12 716 (i_msk [true, true, true, true, true, false, false, false] (i_goto 2328)) := sd_msk _ (sd_goto dL_law_716 (by decide))
theorem r12_719 : Sd gd_mt M12 719 (i_ald 1 720) := sd_aload_n dL_law_719 rfl rfl
theorem r12_720 : Sd gd_mt M12 720 (i_ald 0 721) := sd_aload_n dL_law_720 rfl rfl
theorem r12_721 : Sd gd_mt M12 721 (i_ild 4 723) := sd_iload dL_law_721 rfl
theorem r12_723 : Sd gd_mt M12 723 (i_psh (.int 1) 724) := sd_iconst dL_law_723 (by decide) rfl
theorem r12_724 : Sd gd_mt M12 724 (i_iadd 725) := sd_iadd dL_law_724 rfl
theorem r12_725 : Sd gd_mt M12 725 (i_aldF 41 726) := sd_ialdF dL_law_725 rfl
theorem r12_726 : Sd gd_mt M12 726 (i_ald 3 727) := sd_aload_n dL_law_726 rfl rfl
theorem r12_727 : Sd gd_mt M12 727 (i_cS 20 3 730) := sd_cS2 e20 cal20 q1230 q1231 dL_law_727 rfl
theorem r12_730 : Sd gd_mt M12 730 (i_msk [true, true, true, true, true, false, false, false] (i_ist 5 732)) := sd_msk _ (sd_istore dL_law_730 (by decide) rfl)
theorem r12_732 : Sd gd_mt M12 732 (i_ald 2 733) := sd_aload_n dL_law_732 rfl rfl
theorem r12_733 : Sd gd_mt M12 733 (i_ald 0 734) := sd_aload_n dL_law_733 rfl rfl
theorem r12_734 : Sd gd_mt M12 734 (i_ild 4 736) := sd_iload dL_law_734 rfl
theorem r12_736 : Sd gd_mt M12 736 (i_psh (.int 1) 737) := sd_iconst dL_law_736 (by decide) rfl
theorem r12_737 : Sd gd_mt M12 737 (i_iadd 738) := sd_iadd dL_law_737 rfl
theorem r12_738 : Sd gd_mt M12 738 (i_aldF 41 739) := sd_ialdF dL_law_738 rfl
theorem r12_739 : Sd gd_mt M12 739 (i_cV 240 1 8 742) := sd_cV2 e240 cal240 q1880 q1881 (rfl : gd_cl 8 = some _) q1882 dL_law_739 rfl
theorem r12_742 : Sd gd_mt M12 742 (i_msk [true, true, true, true, true, true, false, false] (i_ist 6 744)) := sd_msk _ (sd_istore dL_law_742 (by decide) rfl)
theorem r12_744 : Sd gd_mt M12 744 (i_ald 2 745) := sd_aload_n dL_law_744 rfl rfl
theorem r12_745 : Sd gd_mt M12 745 (i_cV 175 0 8 748) := sd_cV2 e175 cal175 q1432 q1433 (rfl : gd_cl 8 = some _) q1434 dL_law_745 rfl
theorem r12_748 : Sd gd_mt M12 748 (i_msk [true, true, true, true, true, true, true, false] (i_ild 5 750)) := sd_msk _ (sd_iload dL_law_748 rfl)
theorem r12_750 : Sd gd_mt M12 750 (i_iceq 755 753) := sd_iceq dL_law_750 (by decide) rfl
theorem r12_753 : Sd gd_mt M12 753 (i_psh (.int 0) 754) := sd_iconst dL_law_753 (by decide) rfl
theorem r12_754 : Sd gd_mt M12 754 (i_zret) := sd_zret rfl dL_law_754
def cl12_7 : List (Nat × gd_I) := [(677, i_ald 0 678), (678, i_ild 4 680), (680, i_psh (.int 2) 681), (681, i_iadd 682), (682, i_aldF 41 683), (683, i_cV 238 2 8 686), (686, i_msk [true, true, true, true, true, true, false, false] (i_ist 6 688)), (688, i_ald 2 689), (689, i_cV 175 0 8 692), (692, i_msk [true, true, true, true, true, true, true, false] (i_ild 5 694)), (694, i_iceq 699 697), (697, i_psh (.int 0) 698), (698, i_zret), (699, i_ild 5 701), (701, i_ifne 716 704), (704, i_ald 3 705), (705, i_psh (.int 0) 706), (706, i_aldJ 707), (707, i_ild 6 709), (709, i_i2l 710), (710, i_lcmp 711), (711, i_ifeq 716 714), (714, i_psh (.int 0) 715), (715, i_zret), (716, i_msk [true, true, true, true, true, false, false, false] (i_goto 2328)), (719, i_ald 1 720), (720, i_ald 0 721), (721, i_ild 4 723), (723, i_psh (.int 1) 724), (724, i_iadd 725), (725, i_aldF 41 726), (726, i_ald 3 727), (727, i_cS 20 3 730), (730, i_msk [true, true, true, true, true, false, false, false] (i_ist 5 732)), (732, i_ald 2 733), (733, i_ald 0 734), (734, i_ild 4 736), (736, i_psh (.int 1) 737), (737, i_iadd 738), (738, i_aldF 41 739), (739, i_cV 240 1 8 742), (742, i_msk [true, true, true, true, true, true, false, false] (i_ist 6 744)), (744, i_ald 2 745), (745, i_cV 175 0 8 748), (748, i_msk [true, true, true, true, true, true, true, false] (i_ild 5 750)), (750, i_iceq 755 753), (753, i_psh (.int 0) 754), (754, i_zret)]
theorem cs12_7 : ∀ q ∈ cl12_7, Sd gd_mt M12 q.1 q.2 := gd_ac r12_677 (gd_ac r12_678 (gd_ac r12_680 (gd_ac r12_681 (gd_ac r12_682 (gd_ac r12_683 (gd_ac r12_686 (gd_ac r12_688 (gd_ac r12_689 (gd_ac r12_692 (gd_ac r12_694 (gd_ac r12_697 (gd_ac r12_698 (gd_ac r12_699 (gd_ac r12_701 (gd_ac r12_704 (gd_ac r12_705 (gd_ac r12_706 (gd_ac r12_707 (gd_ac r12_709 (gd_ac r12_710 (gd_ac r12_711 (gd_ac r12_714 (gd_ac r12_715 (gd_ac r12_716 (gd_ac r12_719 (gd_ac r12_720 (gd_ac r12_721 (gd_ac r12_723 (gd_ac r12_724 (gd_ac r12_725 (gd_ac r12_726 (gd_ac r12_727 (gd_ac r12_730 (gd_ac r12_732 (gd_ac r12_733 (gd_ac r12_734 (gd_ac r12_736 (gd_ac r12_737 (gd_ac r12_738 (gd_ac r12_739 (gd_ac r12_742 (gd_ac r12_744 (gd_ac r12_745 (gd_ac r12_748 (gd_ac r12_750 (gd_ac r12_753 (gd_ac r12_754 (gd_an))))))))))))))))))))))))))))))))))))))))))))))))
theorem r12_755 : Sd gd_mt M12 755 (i_ild 5 757) := sd_iload dL_law_755 rfl
theorem r12_757 : Sd gd_mt M12 757 (i_ifne 772 760) := sd_ifne dL_law_757 (by decide) rfl
theorem r12_760 : Sd gd_mt M12 760 (i_ald 3 761) := sd_aload_n dL_law_760 rfl rfl
theorem r12_761 : Sd gd_mt M12 761 (i_psh (.int 0) 762) := sd_iconst dL_law_761 (by decide) rfl
theorem r12_762 : Sd gd_mt M12 762 (i_aldJ 763) := sd_lald dL_law_762 rfl
theorem r12_763 : Sd gd_mt M12 763 (i_ild 6 765) := sd_iload dL_law_763 rfl
theorem r12_765 : Sd gd_mt M12 765 (i_i2l 766) := sd_i2l dL_law_765 rfl
theorem r12_766 : Sd gd_mt M12 766 (i_lcmp 767) := sd_lcmp dL_law_766 rfl
theorem r12_767 : Sd gd_mt M12 767 (i_ifeq 772 770) := sd_ifeq dL_law_767 (by decide) rfl
theorem r12_770 : Sd gd_mt M12 770 (i_psh (.int 0) 771) := sd_iconst dL_law_770 (by decide) rfl
theorem r12_771 : Sd gd_mt M12 771 (i_zret) := sd_zret rfl dL_law_771
theorem r12_772 : Sd gd_mt M12 772 (i_msk [true, true, true, true, true, false, false, false] (i_goto 2328)) := sd_msk _ (sd_goto dL_law_772 (by decide))
theorem r12_775 : Sd gd_mt M12 775 (i_ald 1 776) := sd_aload_n dL_law_775 rfl rfl
theorem r12_776 : Sd gd_mt M12 776 (i_ald 0 777) := sd_aload_n dL_law_776 rfl rfl
theorem r12_777 : Sd gd_mt M12 777 (i_ild 4 779) := sd_iload dL_law_777 rfl
theorem r12_779 : Sd gd_mt M12 779 (i_psh (.int 1) 780) := sd_iconst dL_law_779 (by decide) rfl
theorem r12_780 : Sd gd_mt M12 780 (i_iadd 781) := sd_iadd dL_law_780 rfl
theorem r12_781 : Sd gd_mt M12 781 (i_aldF 41 782) := sd_ialdF dL_law_781 rfl
theorem r12_782 : Sd gd_mt M12 782 (i_ald 0 783) := sd_aload_n dL_law_782 rfl rfl
theorem r12_783 : Sd gd_mt M12 783 (i_ild 4 785) := sd_iload dL_law_783 rfl
theorem r12_785 : Sd gd_mt M12 785 (i_psh (.int 2) 786) := sd_iconst dL_law_785 (by decide) rfl
theorem r12_786 : Sd gd_mt M12 786 (i_iadd 787) := sd_iadd dL_law_786 rfl
theorem r12_787 : Sd gd_mt M12 787 (i_aldF 41 788) := sd_ialdF dL_law_787 rfl
theorem r12_788 : Sd gd_mt M12 788 (i_ald 0 789) := sd_aload_n dL_law_788 rfl rfl
theorem r12_789 : Sd gd_mt M12 789 (i_ild 4 791) := sd_iload dL_law_789 rfl
theorem r12_791 : Sd gd_mt M12 791 (i_psh (.int 3) 792) := sd_iconst dL_law_791 (by decide) rfl
theorem r12_792 : Sd gd_mt M12 792 (i_iadd 793) := sd_iadd dL_law_792 rfl
theorem r12_793 : Sd gd_mt M12 793 (i_aldF 41 794) := sd_ialdF dL_law_793 rfl
theorem r12_794 : Sd gd_mt M12 794 (i_ald 0 795) := sd_aload_n dL_law_794 rfl rfl
theorem r12_795 : Sd gd_mt M12 795 (i_ild 4 797) := sd_iload dL_law_795 rfl
theorem r12_797 : Sd gd_mt M12 797 (i_psh (.int 4) 798) := sd_iconst dL_law_797 (by decide) rfl
theorem r12_798 : Sd gd_mt M12 798 (i_iadd 799) := sd_iadd dL_law_798 rfl
theorem r12_799 : Sd gd_mt M12 799 (i_aldF 41 800) := sd_ialdF dL_law_799 rfl
theorem r12_800 : Sd gd_mt M12 800 (i_ald 0 801) := sd_aload_n dL_law_800 rfl rfl
theorem r12_801 : Sd gd_mt M12 801 (i_ild 4 803) := sd_iload dL_law_801 rfl
theorem r12_803 : Sd gd_mt M12 803 (i_psh (.int 5) 804) := sd_iconst dL_law_803 (by decide) rfl
theorem r12_804 : Sd gd_mt M12 804 (i_iadd 805) := sd_iadd dL_law_804 rfl
theorem r12_805 : Sd gd_mt M12 805 (i_aldF 41 806) := sd_ialdF dL_law_805 rfl
theorem r12_806 : Sd gd_mt M12 806 (i_ald 0 807) := sd_aload_n dL_law_806 rfl rfl
theorem r12_807 : Sd gd_mt M12 807 (i_ild 4 809) := sd_iload dL_law_807 rfl
theorem r12_809 : Sd gd_mt M12 809 (i_psh (.int 6) 811) := sd_bipush dL_law_809 (by decide) rfl
theorem r12_811 : Sd gd_mt M12 811 (i_iadd 812) := sd_iadd dL_law_811 rfl
theorem r12_812 : Sd gd_mt M12 812 (i_aldF 41 813) := sd_ialdF dL_law_812 rfl
theorem r12_813 : Sd gd_mt M12 813 (i_ald 0 814) := sd_aload_n dL_law_813 rfl rfl
theorem r12_814 : Sd gd_mt M12 814 (i_ild 4 816) := sd_iload dL_law_814 rfl
theorem r12_816 : Sd gd_mt M12 816 (i_psh (.int 7) 818) := sd_bipush dL_law_816 (by decide) rfl
theorem r12_818 : Sd gd_mt M12 818 (i_iadd 819) := sd_iadd dL_law_818 rfl
theorem r12_819 : Sd gd_mt M12 819 (i_aldF 41 820) := sd_ialdF dL_law_819 rfl
def cl12_8 : List (Nat × gd_I) := [(755, i_ild 5 757), (757, i_ifne 772 760), (760, i_ald 3 761), (761, i_psh (.int 0) 762), (762, i_aldJ 763), (763, i_ild 6 765), (765, i_i2l 766), (766, i_lcmp 767), (767, i_ifeq 772 770), (770, i_psh (.int 0) 771), (771, i_zret), (772, i_msk [true, true, true, true, true, false, false, false] (i_goto 2328)), (775, i_ald 1 776), (776, i_ald 0 777), (777, i_ild 4 779), (779, i_psh (.int 1) 780), (780, i_iadd 781), (781, i_aldF 41 782), (782, i_ald 0 783), (783, i_ild 4 785), (785, i_psh (.int 2) 786), (786, i_iadd 787), (787, i_aldF 41 788), (788, i_ald 0 789), (789, i_ild 4 791), (791, i_psh (.int 3) 792), (792, i_iadd 793), (793, i_aldF 41 794), (794, i_ald 0 795), (795, i_ild 4 797), (797, i_psh (.int 4) 798), (798, i_iadd 799), (799, i_aldF 41 800), (800, i_ald 0 801), (801, i_ild 4 803), (803, i_psh (.int 5) 804), (804, i_iadd 805), (805, i_aldF 41 806), (806, i_ald 0 807), (807, i_ild 4 809), (809, i_psh (.int 6) 811), (811, i_iadd 812), (812, i_aldF 41 813), (813, i_ald 0 814), (814, i_ild 4 816), (816, i_psh (.int 7) 818), (818, i_iadd 819), (819, i_aldF 41 820)]
theorem cs12_8 : ∀ q ∈ cl12_8, Sd gd_mt M12 q.1 q.2 := gd_ac r12_755 (gd_ac r12_757 (gd_ac r12_760 (gd_ac r12_761 (gd_ac r12_762 (gd_ac r12_763 (gd_ac r12_765 (gd_ac r12_766 (gd_ac r12_767 (gd_ac r12_770 (gd_ac r12_771 (gd_ac r12_772 (gd_ac r12_775 (gd_ac r12_776 (gd_ac r12_777 (gd_ac r12_779 (gd_ac r12_780 (gd_ac r12_781 (gd_ac r12_782 (gd_ac r12_783 (gd_ac r12_785 (gd_ac r12_786 (gd_ac r12_787 (gd_ac r12_788 (gd_ac r12_789 (gd_ac r12_791 (gd_ac r12_792 (gd_ac r12_793 (gd_ac r12_794 (gd_ac r12_795 (gd_ac r12_797 (gd_ac r12_798 (gd_ac r12_799 (gd_ac r12_800 (gd_ac r12_801 (gd_ac r12_803 (gd_ac r12_804 (gd_ac r12_805 (gd_ac r12_806 (gd_ac r12_807 (gd_ac r12_809 (gd_ac r12_811 (gd_ac r12_812 (gd_ac r12_813 (gd_ac r12_814 (gd_ac r12_816 (gd_ac r12_818 (gd_ac r12_819 (gd_an))))))))))))))))))))))))))))))))))))))))))))))))
theorem r12_820 : Sd gd_mt M12 820 (i_ald 0 821) := sd_aload_n dL_law_820 rfl rfl
theorem r12_821 : Sd gd_mt M12 821 (i_ild 4 823) := sd_iload dL_law_821 rfl
theorem r12_823 : Sd gd_mt M12 823 (i_psh (.int 8) 825) := sd_bipush dL_law_823 (by decide) rfl
theorem r12_825 : Sd gd_mt M12 825 (i_iadd 826) := sd_iadd dL_law_825 rfl
theorem r12_826 : Sd gd_mt M12 826 (i_aldF 41 827) := sd_ialdF dL_law_826 rfl
theorem r12_827 : Sd gd_mt M12 827 (i_ald 3 828) := sd_aload_n dL_law_827 rfl rfl
theorem r12_828 : Sd gd_mt M12 828 (i_cS 21 10 831) := sd_cS2 e21 cal21 q1238 q1239 dL_law_828 rfl
theorem r12_831 : Sd gd_mt M12 831 (i_msk [true, true, true, true, true, false, false, false] (i_ist 5 833)) := sd_msk _ (sd_istore dL_law_831 (by decide) rfl)
theorem r12_833 : Sd gd_mt M12 833 (i_ald 2 834) := sd_aload_n dL_law_833 rfl rfl
theorem r12_834 : Sd gd_mt M12 834 (i_ald 0 835) := sd_aload_n dL_law_834 rfl rfl
theorem r12_835 : Sd gd_mt M12 835 (i_ild 4 837) := sd_iload dL_law_835 rfl
theorem r12_837 : Sd gd_mt M12 837 (i_psh (.int 1) 838) := sd_iconst dL_law_837 (by decide) rfl
theorem r12_838 : Sd gd_mt M12 838 (i_iadd 839) := sd_iadd dL_law_838 rfl
theorem r12_839 : Sd gd_mt M12 839 (i_aldF 41 840) := sd_ialdF dL_law_839 rfl
theorem r12_840 : Sd gd_mt M12 840 (i_ald 0 841) := sd_aload_n dL_law_840 rfl rfl
theorem r12_841 : Sd gd_mt M12 841 (i_ild 4 843) := sd_iload dL_law_841 rfl
theorem r12_843 : Sd gd_mt M12 843 (i_psh (.int 2) 844) := sd_iconst dL_law_843 (by decide) rfl
theorem r12_844 : Sd gd_mt M12 844 (i_iadd 845) := sd_iadd dL_law_844 rfl
theorem r12_845 : Sd gd_mt M12 845 (i_aldF 41 846) := sd_ialdF dL_law_845 rfl
theorem r12_846 : Sd gd_mt M12 846 (i_ald 0 847) := sd_aload_n dL_law_846 rfl rfl
theorem r12_847 : Sd gd_mt M12 847 (i_ild 4 849) := sd_iload dL_law_847 rfl
theorem r12_849 : Sd gd_mt M12 849 (i_psh (.int 3) 850) := sd_iconst dL_law_849 (by decide) rfl
theorem r12_850 : Sd gd_mt M12 850 (i_iadd 851) := sd_iadd dL_law_850 rfl
theorem r12_851 : Sd gd_mt M12 851 (i_aldF 41 852) := sd_ialdF dL_law_851 rfl
theorem r12_852 : Sd gd_mt M12 852 (i_ald 0 853) := sd_aload_n dL_law_852 rfl rfl
theorem r12_853 : Sd gd_mt M12 853 (i_ild 4 855) := sd_iload dL_law_853 rfl
theorem r12_855 : Sd gd_mt M12 855 (i_psh (.int 4) 856) := sd_iconst dL_law_855 (by decide) rfl
theorem r12_856 : Sd gd_mt M12 856 (i_iadd 857) := sd_iadd dL_law_856 rfl
theorem r12_857 : Sd gd_mt M12 857 (i_aldF 41 858) := sd_ialdF dL_law_857 rfl
theorem r12_858 : Sd gd_mt M12 858 (i_ald 0 859) := sd_aload_n dL_law_858 rfl rfl
theorem r12_859 : Sd gd_mt M12 859 (i_ild 4 861) := sd_iload dL_law_859 rfl
theorem r12_861 : Sd gd_mt M12 861 (i_psh (.int 5) 862) := sd_iconst dL_law_861 (by decide) rfl
theorem r12_862 : Sd gd_mt M12 862 (i_iadd 863) := sd_iadd dL_law_862 rfl
theorem r12_863 : Sd gd_mt M12 863 (i_aldF 41 864) := sd_ialdF dL_law_863 rfl
theorem r12_864 : Sd gd_mt M12 864 (i_ald 0 865) := sd_aload_n dL_law_864 rfl rfl
theorem r12_865 : Sd gd_mt M12 865 (i_ild 4 867) := sd_iload dL_law_865 rfl
theorem r12_867 : Sd gd_mt M12 867 (i_psh (.int 6) 869) := sd_bipush dL_law_867 (by decide) rfl
theorem r12_869 : Sd gd_mt M12 869 (i_iadd 870) := sd_iadd dL_law_869 rfl
theorem r12_870 : Sd gd_mt M12 870 (i_aldF 41 871) := sd_ialdF dL_law_870 rfl
theorem r12_871 : Sd gd_mt M12 871 (i_ald 0 872) := sd_aload_n dL_law_871 rfl rfl
theorem r12_872 : Sd gd_mt M12 872 (i_ild 4 874) := sd_iload dL_law_872 rfl
theorem r12_874 : Sd gd_mt M12 874 (i_psh (.int 7) 876) := sd_bipush dL_law_874 (by decide) rfl
theorem r12_876 : Sd gd_mt M12 876 (i_iadd 877) := sd_iadd dL_law_876 rfl
theorem r12_877 : Sd gd_mt M12 877 (i_aldF 41 878) := sd_ialdF dL_law_877 rfl
theorem r12_878 : Sd gd_mt M12 878 (i_ald 0 879) := sd_aload_n dL_law_878 rfl rfl
theorem r12_879 : Sd gd_mt M12 879 (i_ild 4 881) := sd_iload dL_law_879 rfl
theorem r12_881 : Sd gd_mt M12 881 (i_psh (.int 8) 883) := sd_bipush dL_law_881 (by decide) rfl
theorem r12_883 : Sd gd_mt M12 883 (i_iadd 884) := sd_iadd dL_law_883 rfl
def cl12_9 : List (Nat × gd_I) := [(820, i_ald 0 821), (821, i_ild 4 823), (823, i_psh (.int 8) 825), (825, i_iadd 826), (826, i_aldF 41 827), (827, i_ald 3 828), (828, i_cS 21 10 831), (831, i_msk [true, true, true, true, true, false, false, false] (i_ist 5 833)), (833, i_ald 2 834), (834, i_ald 0 835), (835, i_ild 4 837), (837, i_psh (.int 1) 838), (838, i_iadd 839), (839, i_aldF 41 840), (840, i_ald 0 841), (841, i_ild 4 843), (843, i_psh (.int 2) 844), (844, i_iadd 845), (845, i_aldF 41 846), (846, i_ald 0 847), (847, i_ild 4 849), (849, i_psh (.int 3) 850), (850, i_iadd 851), (851, i_aldF 41 852), (852, i_ald 0 853), (853, i_ild 4 855), (855, i_psh (.int 4) 856), (856, i_iadd 857), (857, i_aldF 41 858), (858, i_ald 0 859), (859, i_ild 4 861), (861, i_psh (.int 5) 862), (862, i_iadd 863), (863, i_aldF 41 864), (864, i_ald 0 865), (865, i_ild 4 867), (867, i_psh (.int 6) 869), (869, i_iadd 870), (870, i_aldF 41 871), (871, i_ald 0 872), (872, i_ild 4 874), (874, i_psh (.int 7) 876), (876, i_iadd 877), (877, i_aldF 41 878), (878, i_ald 0 879), (879, i_ild 4 881), (881, i_psh (.int 8) 883), (883, i_iadd 884)]
theorem cs12_9 : ∀ q ∈ cl12_9, Sd gd_mt M12 q.1 q.2 := gd_ac r12_820 (gd_ac r12_821 (gd_ac r12_823 (gd_ac r12_825 (gd_ac r12_826 (gd_ac r12_827 (gd_ac r12_828 (gd_ac r12_831 (gd_ac r12_833 (gd_ac r12_834 (gd_ac r12_835 (gd_ac r12_837 (gd_ac r12_838 (gd_ac r12_839 (gd_ac r12_840 (gd_ac r12_841 (gd_ac r12_843 (gd_ac r12_844 (gd_ac r12_845 (gd_ac r12_846 (gd_ac r12_847 (gd_ac r12_849 (gd_ac r12_850 (gd_ac r12_851 (gd_ac r12_852 (gd_ac r12_853 (gd_ac r12_855 (gd_ac r12_856 (gd_ac r12_857 (gd_ac r12_858 (gd_ac r12_859 (gd_ac r12_861 (gd_ac r12_862 (gd_ac r12_863 (gd_ac r12_864 (gd_ac r12_865 (gd_ac r12_867 (gd_ac r12_869 (gd_ac r12_870 (gd_ac r12_871 (gd_ac r12_872 (gd_ac r12_874 (gd_ac r12_876 (gd_ac r12_877 (gd_ac r12_878 (gd_ac r12_879 (gd_ac r12_881 (gd_ac r12_883 (gd_an))))))))))))))))))))))))))))))))))))))))))))))))
theorem r12_884 : Sd gd_mt M12 884 (i_aldF 41 885) := sd_ialdF dL_law_884 rfl
theorem r12_885 : Sd gd_mt M12 885 (i_cV 241 8 8 888) := sd_cV2 e241 cal241 q1884 q1885 (rfl : gd_cl 8 = some _) q1886 dL_law_885 rfl
theorem r12_888 : Sd gd_mt M12 888 (i_msk [true, true, true, true, true, true, false, false] (i_ist 6 890)) := sd_msk _ (sd_istore dL_law_888 (by decide) rfl)
theorem r12_890 : Sd gd_mt M12 890 (i_ald 2 891) := sd_aload_n dL_law_890 rfl rfl
theorem r12_891 : Sd gd_mt M12 891 (i_cV 175 0 8 894) := sd_cV2 e175 cal175 q1432 q1433 (rfl : gd_cl 8 = some _) q1434 dL_law_891 rfl
theorem r12_894 : Sd gd_mt M12 894 (i_msk [true, true, true, true, true, true, true, false] (i_ild 5 896)) := sd_msk _ (sd_iload dL_law_894 rfl)
theorem r12_896 : Sd gd_mt M12 896 (i_iceq 901 899) := sd_iceq dL_law_896 (by decide) rfl
theorem r12_899 : Sd gd_mt M12 899 (i_psh (.int 0) 900) := sd_iconst dL_law_899 (by decide) rfl
theorem r12_900 : Sd gd_mt M12 900 (i_zret) := sd_zret rfl dL_law_900
theorem r12_901 : Sd gd_mt M12 901 (i_ild 5 903) := sd_iload dL_law_901 rfl
theorem r12_903 : Sd gd_mt M12 903 (i_ifne 918 906) := sd_ifne dL_law_903 (by decide) rfl
theorem r12_906 : Sd gd_mt M12 906 (i_ald 3 907) := sd_aload_n dL_law_906 rfl rfl
theorem r12_907 : Sd gd_mt M12 907 (i_psh (.int 0) 908) := sd_iconst dL_law_907 (by decide) rfl
theorem r12_908 : Sd gd_mt M12 908 (i_aldJ 909) := sd_lald dL_law_908 rfl
theorem r12_909 : Sd gd_mt M12 909 (i_ild 6 911) := sd_iload dL_law_909 rfl
theorem r12_911 : Sd gd_mt M12 911 (i_i2l 912) := sd_i2l dL_law_911 rfl
theorem r12_912 : Sd gd_mt M12 912 (i_lcmp 913) := sd_lcmp dL_law_912 rfl
theorem r12_913 : Sd gd_mt M12 913 (i_ifeq 918 916) := sd_ifeq dL_law_913 (by decide) rfl
theorem r12_916 : Sd gd_mt M12 916 (i_psh (.int 0) 917) := sd_iconst dL_law_916 (by decide) rfl
theorem r12_917 : Sd gd_mt M12 917 (i_zret) := sd_zret rfl dL_law_917
theorem r12_918 : Sd gd_mt M12 918 (i_msk [true, true, true, true, true, false, false, false] (i_goto 2328)) := sd_msk _ (sd_goto dL_law_918 (by decide))
theorem r12_921 : Sd gd_mt M12 921 (i_ald 1 922) := sd_aload_n dL_law_921 rfl rfl
theorem r12_922 : Sd gd_mt M12 922 (i_ald 0 923) := sd_aload_n dL_law_922 rfl rfl
theorem r12_923 : Sd gd_mt M12 923 (i_ild 4 925) := sd_iload dL_law_923 rfl
theorem r12_925 : Sd gd_mt M12 925 (i_psh (.int 1) 926) := sd_iconst dL_law_925 (by decide) rfl
theorem r12_926 : Sd gd_mt M12 926 (i_iadd 927) := sd_iadd dL_law_926 rfl
theorem r12_927 : Sd gd_mt M12 927 (i_aldF 41 928) := sd_ialdF dL_law_927 rfl
theorem r12_928 : Sd gd_mt M12 928 (i_ald 0 929) := sd_aload_n dL_law_928 rfl rfl
theorem r12_929 : Sd gd_mt M12 929 (i_ild 4 931) := sd_iload dL_law_929 rfl
theorem r12_931 : Sd gd_mt M12 931 (i_psh (.int 2) 932) := sd_iconst dL_law_931 (by decide) rfl
theorem r12_932 : Sd gd_mt M12 932 (i_iadd 933) := sd_iadd dL_law_932 rfl
theorem r12_933 : Sd gd_mt M12 933 (i_aldF 41 934) := sd_ialdF dL_law_933 rfl
theorem r12_934 : Sd gd_mt M12 934 (i_ald 3 935) := sd_aload_n dL_law_934 rfl rfl
theorem r12_935 : Sd gd_mt M12 935 (i_cS 22 4 938) := sd_cS2 e22 cal22 q1246 q1247 dL_law_935 rfl
theorem r12_938 : Sd gd_mt M12 938 (i_msk [true, true, true, true, true, false, false, false] (i_ist 5 940)) := sd_msk _ (sd_istore dL_law_938 (by decide) rfl)
theorem r12_940 : Sd gd_mt M12 940 (i_ald 2 941) := sd_aload_n dL_law_940 rfl rfl
theorem r12_941 : Sd gd_mt M12 941 (i_ald 0 942) := sd_aload_n dL_law_941 rfl rfl
theorem r12_942 : Sd gd_mt M12 942 (i_ild 4 944) := sd_iload dL_law_942 rfl
theorem r12_944 : Sd gd_mt M12 944 (i_psh (.int 1) 945) := sd_iconst dL_law_944 (by decide) rfl
theorem r12_945 : Sd gd_mt M12 945 (i_iadd 946) := sd_iadd dL_law_945 rfl
theorem r12_946 : Sd gd_mt M12 946 (i_aldF 41 947) := sd_ialdF dL_law_946 rfl
theorem r12_947 : Sd gd_mt M12 947 (i_ald 0 948) := sd_aload_n dL_law_947 rfl rfl
theorem r12_948 : Sd gd_mt M12 948 (i_ild 4 950) := sd_iload dL_law_948 rfl
theorem r12_950 : Sd gd_mt M12 950 (i_psh (.int 2) 951) := sd_iconst dL_law_950 (by decide) rfl
theorem r12_951 : Sd gd_mt M12 951 (i_iadd 952) := sd_iadd dL_law_951 rfl
theorem r12_952 : Sd gd_mt M12 952 (i_aldF 41 953) := sd_ialdF dL_law_952 rfl
theorem r12_953 : Sd gd_mt M12 953 (i_cV 242 2 8 956) := sd_cV2 e242 cal242 q1888 q1889 (rfl : gd_cl 8 = some _) q1890 dL_law_953 rfl
theorem r12_956 : Sd gd_mt M12 956 (i_msk [true, true, true, true, true, true, false, false] (i_ist 6 958)) := sd_msk _ (sd_istore dL_law_956 (by decide) rfl)
def cl12_10 : List (Nat × gd_I) := [(884, i_aldF 41 885), (885, i_cV 241 8 8 888), (888, i_msk [true, true, true, true, true, true, false, false] (i_ist 6 890)), (890, i_ald 2 891), (891, i_cV 175 0 8 894), (894, i_msk [true, true, true, true, true, true, true, false] (i_ild 5 896)), (896, i_iceq 901 899), (899, i_psh (.int 0) 900), (900, i_zret), (901, i_ild 5 903), (903, i_ifne 918 906), (906, i_ald 3 907), (907, i_psh (.int 0) 908), (908, i_aldJ 909), (909, i_ild 6 911), (911, i_i2l 912), (912, i_lcmp 913), (913, i_ifeq 918 916), (916, i_psh (.int 0) 917), (917, i_zret), (918, i_msk [true, true, true, true, true, false, false, false] (i_goto 2328)), (921, i_ald 1 922), (922, i_ald 0 923), (923, i_ild 4 925), (925, i_psh (.int 1) 926), (926, i_iadd 927), (927, i_aldF 41 928), (928, i_ald 0 929), (929, i_ild 4 931), (931, i_psh (.int 2) 932), (932, i_iadd 933), (933, i_aldF 41 934), (934, i_ald 3 935), (935, i_cS 22 4 938), (938, i_msk [true, true, true, true, true, false, false, false] (i_ist 5 940)), (940, i_ald 2 941), (941, i_ald 0 942), (942, i_ild 4 944), (944, i_psh (.int 1) 945), (945, i_iadd 946), (946, i_aldF 41 947), (947, i_ald 0 948), (948, i_ild 4 950), (950, i_psh (.int 2) 951), (951, i_iadd 952), (952, i_aldF 41 953), (953, i_cV 242 2 8 956), (956, i_msk [true, true, true, true, true, true, false, false] (i_ist 6 958))]
theorem cs12_10 : ∀ q ∈ cl12_10, Sd gd_mt M12 q.1 q.2 := gd_ac r12_884 (gd_ac r12_885 (gd_ac r12_888 (gd_ac r12_890 (gd_ac r12_891 (gd_ac r12_894 (gd_ac r12_896 (gd_ac r12_899 (gd_ac r12_900 (gd_ac r12_901 (gd_ac r12_903 (gd_ac r12_906 (gd_ac r12_907 (gd_ac r12_908 (gd_ac r12_909 (gd_ac r12_911 (gd_ac r12_912 (gd_ac r12_913 (gd_ac r12_916 (gd_ac r12_917 (gd_ac r12_918 (gd_ac r12_921 (gd_ac r12_922 (gd_ac r12_923 (gd_ac r12_925 (gd_ac r12_926 (gd_ac r12_927 (gd_ac r12_928 (gd_ac r12_929 (gd_ac r12_931 (gd_ac r12_932 (gd_ac r12_933 (gd_ac r12_934 (gd_ac r12_935 (gd_ac r12_938 (gd_ac r12_940 (gd_ac r12_941 (gd_ac r12_942 (gd_ac r12_944 (gd_ac r12_945 (gd_ac r12_946 (gd_ac r12_947 (gd_ac r12_948 (gd_ac r12_950 (gd_ac r12_951 (gd_ac r12_952 (gd_ac r12_953 (gd_ac r12_956 (gd_an))))))))))))))))))))))))))))))))))))))))))))))))
theorem r12_958 : Sd gd_mt M12 958 (i_ald 2 959) := sd_aload_n dL_law_958 rfl rfl
theorem r12_959 : Sd gd_mt M12 959 (i_cV 175 0 8 962) := sd_cV2 e175 cal175 q1432 q1433 (rfl : gd_cl 8 = some _) q1434 dL_law_959 rfl
theorem r12_962 : Sd gd_mt M12 962 (i_msk [true, true, true, true, true, true, true, false] (i_ild 5 964)) := sd_msk _ (sd_iload dL_law_962 rfl)
theorem r12_964 : Sd gd_mt M12 964 (i_iceq 969 967) := sd_iceq dL_law_964 (by decide) rfl
theorem r12_967 : Sd gd_mt M12 967 (i_psh (.int 0) 968) := sd_iconst dL_law_967 (by decide) rfl
theorem r12_968 : Sd gd_mt M12 968 (i_zret) := sd_zret rfl dL_law_968
theorem r12_969 : Sd gd_mt M12 969 (i_ild 5 971) := sd_iload dL_law_969 rfl
theorem r12_971 : Sd gd_mt M12 971 (i_ifne 986 974) := sd_ifne dL_law_971 (by decide) rfl
theorem r12_974 : Sd gd_mt M12 974 (i_ald 3 975) := sd_aload_n dL_law_974 rfl rfl
theorem r12_975 : Sd gd_mt M12 975 (i_psh (.int 0) 976) := sd_iconst dL_law_975 (by decide) rfl
theorem r12_976 : Sd gd_mt M12 976 (i_aldJ 977) := sd_lald dL_law_976 rfl
theorem r12_977 : Sd gd_mt M12 977 (i_ild 6 979) := sd_iload dL_law_977 rfl
theorem r12_979 : Sd gd_mt M12 979 (i_i2l 980) := sd_i2l dL_law_979 rfl
theorem r12_980 : Sd gd_mt M12 980 (i_lcmp 981) := sd_lcmp dL_law_980 rfl
theorem r12_981 : Sd gd_mt M12 981 (i_ifeq 986 984) := sd_ifeq dL_law_981 (by decide) rfl
theorem r12_984 : Sd gd_mt M12 984 (i_psh (.int 0) 985) := sd_iconst dL_law_984 (by decide) rfl
theorem r12_985 : Sd gd_mt M12 985 (i_zret) := sd_zret rfl dL_law_985
theorem r12_986 : Sd gd_mt M12 986 (i_msk [true, true, true, true, true, false, false, false] (i_goto 2328)) := sd_msk _ (sd_goto dL_law_986 (by decide))
theorem r12_989 : Sd gd_mt M12 989 (i_ald 1 990) := sd_aload_n dL_law_989 rfl rfl
theorem r12_990 : Sd gd_mt M12 990 (i_ald 0 991) := sd_aload_n dL_law_990 rfl rfl
theorem r12_991 : Sd gd_mt M12 991 (i_ild 4 993) := sd_iload dL_law_991 rfl
theorem r12_993 : Sd gd_mt M12 993 (i_psh (.int 1) 994) := sd_iconst dL_law_993 (by decide) rfl
theorem r12_994 : Sd gd_mt M12 994 (i_iadd 995) := sd_iadd dL_law_994 rfl
theorem r12_995 : Sd gd_mt M12 995 (i_aldF 41 996) := sd_ialdF dL_law_995 rfl
theorem r12_996 : Sd gd_mt M12 996 (i_ald 0 997) := sd_aload_n dL_law_996 rfl rfl
theorem r12_997 : Sd gd_mt M12 997 (i_ild 4 999) := sd_iload dL_law_997 rfl
theorem r12_999 : Sd gd_mt M12 999 (i_psh (.int 2) 1000) := sd_iconst dL_law_999 (by decide) rfl
theorem r12_1000 : Sd gd_mt M12 1000 (i_iadd 1001) := sd_iadd dL_law_1000 rfl
theorem r12_1001 : Sd gd_mt M12 1001 (i_aldF 41 1002) := sd_ialdF dL_law_1001 rfl
theorem r12_1002 : Sd gd_mt M12 1002 (i_ald 3 1003) := sd_aload_n dL_law_1002 rfl rfl
theorem r12_1003 : Sd gd_mt M12 1003 (i_cS 23 4 1006) := sd_cS2 e23 cal23 q1262 q1263 dL_law_1003 rfl
theorem r12_1006 : Sd gd_mt M12 1006 (i_msk [true, true, true, true, true, false, false, false] (i_ist 5 1008)) := sd_msk _ (sd_istore dL_law_1006 (by decide) rfl)
theorem r12_1008 : Sd gd_mt M12 1008 (i_ald 2 1009) := sd_aload_n dL_law_1008 rfl rfl
theorem r12_1009 : Sd gd_mt M12 1009 (i_ald 0 1010) := sd_aload_n dL_law_1009 rfl rfl
theorem r12_1010 : Sd gd_mt M12 1010 (i_ild 4 1012) := sd_iload dL_law_1010 rfl
theorem r12_1012 : Sd gd_mt M12 1012 (i_psh (.int 1) 1013) := sd_iconst dL_law_1012 (by decide) rfl
theorem r12_1013 : Sd gd_mt M12 1013 (i_iadd 1014) := sd_iadd dL_law_1013 rfl
theorem r12_1014 : Sd gd_mt M12 1014 (i_aldF 41 1015) := sd_ialdF dL_law_1014 rfl
theorem r12_1015 : Sd gd_mt M12 1015 (i_ald 0 1016) := sd_aload_n dL_law_1015 rfl rfl
theorem r12_1016 : Sd gd_mt M12 1016 (i_ild 4 1018) := sd_iload dL_law_1016 rfl
theorem r12_1018 : Sd gd_mt M12 1018 (i_psh (.int 2) 1019) := sd_iconst dL_law_1018 (by decide) rfl
theorem r12_1019 : Sd gd_mt M12 1019 (i_iadd 1020) := sd_iadd dL_law_1019 rfl
theorem r12_1020 : Sd gd_mt M12 1020 (i_aldF 41 1021) := sd_ialdF dL_law_1020 rfl
theorem r12_1021 : Sd gd_mt M12 1021 (i_cV 244 2 8 1024) := sd_cV2 e244 cal244 q1896 q1897 (rfl : gd_cl 8 = some _) q1898 dL_law_1021 rfl
theorem r12_1024 : Sd gd_mt M12 1024 (i_msk [true, true, true, true, true, true, false, false] (i_ist 6 1026)) := sd_msk _ (sd_istore dL_law_1024 (by decide) rfl)
theorem r12_1026 : Sd gd_mt M12 1026 (i_ald 2 1027) := sd_aload_n dL_law_1026 rfl rfl
theorem r12_1027 : Sd gd_mt M12 1027 (i_cV 175 0 8 1030) := sd_cV2 e175 cal175 q1432 q1433 (rfl : gd_cl 8 = some _) q1434 dL_law_1027 rfl
theorem r12_1030 : Sd gd_mt M12 1030 (i_msk [true, true, true, true, true, true, true, false] (i_ild 5 1032)) := sd_msk _ (sd_iload dL_law_1030 rfl)
def cl12_11 : List (Nat × gd_I) := [(958, i_ald 2 959), (959, i_cV 175 0 8 962), (962, i_msk [true, true, true, true, true, true, true, false] (i_ild 5 964)), (964, i_iceq 969 967), (967, i_psh (.int 0) 968), (968, i_zret), (969, i_ild 5 971), (971, i_ifne 986 974), (974, i_ald 3 975), (975, i_psh (.int 0) 976), (976, i_aldJ 977), (977, i_ild 6 979), (979, i_i2l 980), (980, i_lcmp 981), (981, i_ifeq 986 984), (984, i_psh (.int 0) 985), (985, i_zret), (986, i_msk [true, true, true, true, true, false, false, false] (i_goto 2328)), (989, i_ald 1 990), (990, i_ald 0 991), (991, i_ild 4 993), (993, i_psh (.int 1) 994), (994, i_iadd 995), (995, i_aldF 41 996), (996, i_ald 0 997), (997, i_ild 4 999), (999, i_psh (.int 2) 1000), (1000, i_iadd 1001), (1001, i_aldF 41 1002), (1002, i_ald 3 1003), (1003, i_cS 23 4 1006), (1006, i_msk [true, true, true, true, true, false, false, false] (i_ist 5 1008)), (1008, i_ald 2 1009), (1009, i_ald 0 1010), (1010, i_ild 4 1012), (1012, i_psh (.int 1) 1013), (1013, i_iadd 1014), (1014, i_aldF 41 1015), (1015, i_ald 0 1016), (1016, i_ild 4 1018), (1018, i_psh (.int 2) 1019), (1019, i_iadd 1020), (1020, i_aldF 41 1021), (1021, i_cV 244 2 8 1024), (1024, i_msk [true, true, true, true, true, true, false, false] (i_ist 6 1026)), (1026, i_ald 2 1027), (1027, i_cV 175 0 8 1030), (1030, i_msk [true, true, true, true, true, true, true, false] (i_ild 5 1032))]
theorem cs12_11 : ∀ q ∈ cl12_11, Sd gd_mt M12 q.1 q.2 := gd_ac r12_958 (gd_ac r12_959 (gd_ac r12_962 (gd_ac r12_964 (gd_ac r12_967 (gd_ac r12_968 (gd_ac r12_969 (gd_ac r12_971 (gd_ac r12_974 (gd_ac r12_975 (gd_ac r12_976 (gd_ac r12_977 (gd_ac r12_979 (gd_ac r12_980 (gd_ac r12_981 (gd_ac r12_984 (gd_ac r12_985 (gd_ac r12_986 (gd_ac r12_989 (gd_ac r12_990 (gd_ac r12_991 (gd_ac r12_993 (gd_ac r12_994 (gd_ac r12_995 (gd_ac r12_996 (gd_ac r12_997 (gd_ac r12_999 (gd_ac r12_1000 (gd_ac r12_1001 (gd_ac r12_1002 (gd_ac r12_1003 (gd_ac r12_1006 (gd_ac r12_1008 (gd_ac r12_1009 (gd_ac r12_1010 (gd_ac r12_1012 (gd_ac r12_1013 (gd_ac r12_1014 (gd_ac r12_1015 (gd_ac r12_1016 (gd_ac r12_1018 (gd_ac r12_1019 (gd_ac r12_1020 (gd_ac r12_1021 (gd_ac r12_1024 (gd_ac r12_1026 (gd_ac r12_1027 (gd_ac r12_1030 (gd_an))))))))))))))))))))))))))))))))))))))))))))))))
theorem r12_1032 : Sd gd_mt M12 1032 (i_iceq 1037 1035) := sd_iceq dL_law_1032 (by decide) rfl
theorem r12_1035 : Sd gd_mt M12 1035 (i_psh (.int 0) 1036) := sd_iconst dL_law_1035 (by decide) rfl
theorem r12_1036 : Sd gd_mt M12 1036 (i_zret) := sd_zret rfl dL_law_1036
theorem r12_1037 : Sd gd_mt M12 1037 (i_ild 5 1039) := sd_iload dL_law_1037 rfl
theorem r12_1039 : Sd gd_mt M12 1039 (i_ifne 1054 1042) := sd_ifne dL_law_1039 (by decide) rfl
theorem r12_1042 : Sd gd_mt M12 1042 (i_ald 3 1043) := sd_aload_n dL_law_1042 rfl rfl
theorem r12_1043 : Sd gd_mt M12 1043 (i_psh (.int 0) 1044) := sd_iconst dL_law_1043 (by decide) rfl
theorem r12_1044 : Sd gd_mt M12 1044 (i_aldJ 1045) := sd_lald dL_law_1044 rfl
theorem r12_1045 : Sd gd_mt M12 1045 (i_ild 6 1047) := sd_iload dL_law_1045 rfl
theorem r12_1047 : Sd gd_mt M12 1047 (i_i2l 1048) := sd_i2l dL_law_1047 rfl
theorem r12_1048 : Sd gd_mt M12 1048 (i_lcmp 1049) := sd_lcmp dL_law_1048 rfl
theorem r12_1049 : Sd gd_mt M12 1049 (i_ifeq 1054 1052) := sd_ifeq dL_law_1049 (by decide) rfl
theorem r12_1052 : Sd gd_mt M12 1052 (i_psh (.int 0) 1053) := sd_iconst dL_law_1052 (by decide) rfl
theorem r12_1053 : Sd gd_mt M12 1053 (i_zret) := sd_zret rfl dL_law_1053
theorem r12_1054 : Sd gd_mt M12 1054 (i_msk [true, true, true, true, true, false, false, false] (i_goto 2328)) := sd_msk _ (sd_goto dL_law_1054 (by decide))
theorem r12_1057 : Sd gd_mt M12 1057 (i_ald 1 1058) := sd_aload_n dL_law_1057 rfl rfl
theorem r12_1058 : Sd gd_mt M12 1058 (i_ald 0 1059) := sd_aload_n dL_law_1058 rfl rfl
theorem r12_1059 : Sd gd_mt M12 1059 (i_ild 4 1061) := sd_iload dL_law_1059 rfl
theorem r12_1061 : Sd gd_mt M12 1061 (i_psh (.int 1) 1062) := sd_iconst dL_law_1061 (by decide) rfl
theorem r12_1062 : Sd gd_mt M12 1062 (i_iadd 1063) := sd_iadd dL_law_1062 rfl
theorem r12_1063 : Sd gd_mt M12 1063 (i_aldF 41 1064) := sd_ialdF dL_law_1063 rfl
theorem r12_1064 : Sd gd_mt M12 1064 (i_ald 0 1065) := sd_aload_n dL_law_1064 rfl rfl
theorem r12_1065 : Sd gd_mt M12 1065 (i_ild 4 1067) := sd_iload dL_law_1065 rfl
theorem r12_1067 : Sd gd_mt M12 1067 (i_psh (.int 2) 1068) := sd_iconst dL_law_1067 (by decide) rfl
theorem r12_1068 : Sd gd_mt M12 1068 (i_iadd 1069) := sd_iadd dL_law_1068 rfl
theorem r12_1069 : Sd gd_mt M12 1069 (i_aldF 41 1070) := sd_ialdF dL_law_1069 rfl
theorem r12_1070 : Sd gd_mt M12 1070 (i_ald 3 1071) := sd_aload_n dL_law_1070 rfl rfl
theorem r12_1071 : Sd gd_mt M12 1071 (i_cS 24 4 1074) := sd_cS2 e24 cal24 q1269 q1270 dL_law_1071 rfl
theorem r12_1074 : Sd gd_mt M12 1074 (i_msk [true, true, true, true, true, false, false, false] (i_ist 5 1076)) := sd_msk _ (sd_istore dL_law_1074 (by decide) rfl)
theorem r12_1076 : Sd gd_mt M12 1076 (i_ald 2 1077) := sd_aload_n dL_law_1076 rfl rfl
theorem r12_1077 : Sd gd_mt M12 1077 (i_ald 0 1078) := sd_aload_n dL_law_1077 rfl rfl
theorem r12_1078 : Sd gd_mt M12 1078 (i_ild 4 1080) := sd_iload dL_law_1078 rfl
theorem r12_1080 : Sd gd_mt M12 1080 (i_psh (.int 1) 1081) := sd_iconst dL_law_1080 (by decide) rfl
theorem r12_1081 : Sd gd_mt M12 1081 (i_iadd 1082) := sd_iadd dL_law_1081 rfl
theorem r12_1082 : Sd gd_mt M12 1082 (i_aldF 41 1083) := sd_ialdF dL_law_1082 rfl
theorem r12_1083 : Sd gd_mt M12 1083 (i_ald 0 1084) := sd_aload_n dL_law_1083 rfl rfl
theorem r12_1084 : Sd gd_mt M12 1084 (i_ild 4 1086) := sd_iload dL_law_1084 rfl
theorem r12_1086 : Sd gd_mt M12 1086 (i_psh (.int 2) 1087) := sd_iconst dL_law_1086 (by decide) rfl
theorem r12_1087 : Sd gd_mt M12 1087 (i_iadd 1088) := sd_iadd dL_law_1087 rfl
theorem r12_1088 : Sd gd_mt M12 1088 (i_aldF 41 1089) := sd_ialdF dL_law_1088 rfl
theorem r12_1089 : Sd gd_mt M12 1089 (i_cV 246 2 8 1092) := sd_cV2 e246 cal246 q1904 q1905 (rfl : gd_cl 8 = some _) q1906 dL_law_1089 rfl
theorem r12_1092 : Sd gd_mt M12 1092 (i_msk [true, true, true, true, true, true, false, false] (i_ist 6 1094)) := sd_msk _ (sd_istore dL_law_1092 (by decide) rfl)
theorem r12_1094 : Sd gd_mt M12 1094 (i_ald 2 1095) := sd_aload_n dL_law_1094 rfl rfl
theorem r12_1095 : Sd gd_mt M12 1095 (i_cV 175 0 8 1098) := sd_cV2 e175 cal175 q1432 q1433 (rfl : gd_cl 8 = some _) q1434 dL_law_1095 rfl
theorem r12_1098 : Sd gd_mt M12 1098 (i_msk [true, true, true, true, true, true, true, false] (i_ild 5 1100)) := sd_msk _ (sd_iload dL_law_1098 rfl)
theorem r12_1100 : Sd gd_mt M12 1100 (i_iceq 1105 1103) := sd_iceq dL_law_1100 (by decide) rfl
theorem r12_1103 : Sd gd_mt M12 1103 (i_psh (.int 0) 1104) := sd_iconst dL_law_1103 (by decide) rfl
theorem r12_1104 : Sd gd_mt M12 1104 (i_zret) := sd_zret rfl dL_law_1104
def cl12_12 : List (Nat × gd_I) := [(1032, i_iceq 1037 1035), (1035, i_psh (.int 0) 1036), (1036, i_zret), (1037, i_ild 5 1039), (1039, i_ifne 1054 1042), (1042, i_ald 3 1043), (1043, i_psh (.int 0) 1044), (1044, i_aldJ 1045), (1045, i_ild 6 1047), (1047, i_i2l 1048), (1048, i_lcmp 1049), (1049, i_ifeq 1054 1052), (1052, i_psh (.int 0) 1053), (1053, i_zret), (1054, i_msk [true, true, true, true, true, false, false, false] (i_goto 2328)), (1057, i_ald 1 1058), (1058, i_ald 0 1059), (1059, i_ild 4 1061), (1061, i_psh (.int 1) 1062), (1062, i_iadd 1063), (1063, i_aldF 41 1064), (1064, i_ald 0 1065), (1065, i_ild 4 1067), (1067, i_psh (.int 2) 1068), (1068, i_iadd 1069), (1069, i_aldF 41 1070), (1070, i_ald 3 1071), (1071, i_cS 24 4 1074), (1074, i_msk [true, true, true, true, true, false, false, false] (i_ist 5 1076)), (1076, i_ald 2 1077), (1077, i_ald 0 1078), (1078, i_ild 4 1080), (1080, i_psh (.int 1) 1081), (1081, i_iadd 1082), (1082, i_aldF 41 1083), (1083, i_ald 0 1084), (1084, i_ild 4 1086), (1086, i_psh (.int 2) 1087), (1087, i_iadd 1088), (1088, i_aldF 41 1089), (1089, i_cV 246 2 8 1092), (1092, i_msk [true, true, true, true, true, true, false, false] (i_ist 6 1094)), (1094, i_ald 2 1095), (1095, i_cV 175 0 8 1098), (1098, i_msk [true, true, true, true, true, true, true, false] (i_ild 5 1100)), (1100, i_iceq 1105 1103), (1103, i_psh (.int 0) 1104), (1104, i_zret)]
theorem cs12_12 : ∀ q ∈ cl12_12, Sd gd_mt M12 q.1 q.2 := gd_ac r12_1032 (gd_ac r12_1035 (gd_ac r12_1036 (gd_ac r12_1037 (gd_ac r12_1039 (gd_ac r12_1042 (gd_ac r12_1043 (gd_ac r12_1044 (gd_ac r12_1045 (gd_ac r12_1047 (gd_ac r12_1048 (gd_ac r12_1049 (gd_ac r12_1052 (gd_ac r12_1053 (gd_ac r12_1054 (gd_ac r12_1057 (gd_ac r12_1058 (gd_ac r12_1059 (gd_ac r12_1061 (gd_ac r12_1062 (gd_ac r12_1063 (gd_ac r12_1064 (gd_ac r12_1065 (gd_ac r12_1067 (gd_ac r12_1068 (gd_ac r12_1069 (gd_ac r12_1070 (gd_ac r12_1071 (gd_ac r12_1074 (gd_ac r12_1076 (gd_ac r12_1077 (gd_ac r12_1078 (gd_ac r12_1080 (gd_ac r12_1081 (gd_ac r12_1082 (gd_ac r12_1083 (gd_ac r12_1084 (gd_ac r12_1086 (gd_ac r12_1087 (gd_ac r12_1088 (gd_ac r12_1089 (gd_ac r12_1092 (gd_ac r12_1094 (gd_ac r12_1095 (gd_ac r12_1098 (gd_ac r12_1100 (gd_ac r12_1103 (gd_ac r12_1104 (gd_an))))))))))))))))))))))))))))))))))))))))))))))))
theorem r12_1105 : Sd gd_mt M12 1105 (i_ild 5 1107) := sd_iload dL_law_1105 rfl
theorem r12_1107 : Sd gd_mt M12 1107 (i_ifne 1122 1110) := sd_ifne dL_law_1107 (by decide) rfl
theorem r12_1110 : Sd gd_mt M12 1110 (i_ald 3 1111) := sd_aload_n dL_law_1110 rfl rfl
theorem r12_1111 : Sd gd_mt M12 1111 (i_psh (.int 0) 1112) := sd_iconst dL_law_1111 (by decide) rfl
theorem r12_1112 : Sd gd_mt M12 1112 (i_aldJ 1113) := sd_lald dL_law_1112 rfl
theorem r12_1113 : Sd gd_mt M12 1113 (i_ild 6 1115) := sd_iload dL_law_1113 rfl
theorem r12_1115 : Sd gd_mt M12 1115 (i_i2l 1116) := sd_i2l dL_law_1115 rfl
theorem r12_1116 : Sd gd_mt M12 1116 (i_lcmp 1117) := sd_lcmp dL_law_1116 rfl
theorem r12_1117 : Sd gd_mt M12 1117 (i_ifeq 1122 1120) := sd_ifeq dL_law_1117 (by decide) rfl
theorem r12_1120 : Sd gd_mt M12 1120 (i_psh (.int 0) 1121) := sd_iconst dL_law_1120 (by decide) rfl
theorem r12_1121 : Sd gd_mt M12 1121 (i_zret) := sd_zret rfl dL_law_1121
theorem r12_1122 : Sd gd_mt M12 1122 (i_msk [true, true, true, true, true, false, false, false] (i_goto 2328)) := sd_msk _ (sd_goto dL_law_1122 (by decide))
theorem r12_1125 : Sd gd_mt M12 1125 (i_ald 1 1126) := sd_aload_n dL_law_1125 rfl rfl
theorem r12_1126 : Sd gd_mt M12 1126 (i_cV 45 0 1 1129) := sd_cV2 e45 cal45 q439 q440 (rfl : gd_cl 1 = some _) q441 dL_law_1126 rfl
theorem r12_1129 : Sd gd_mt M12 1129 (i_msk [true, true, true, true, true, false, false, false] (i_ald 2 1130)) := sd_msk _ (sd_aload_n dL_law_1129 rfl rfl)
theorem r12_1130 : Sd gd_mt M12 1130 (i_cV 247 0 8 1133) := sd_cV2 e247 cal247 q1908 q1909 (rfl : gd_cl 8 = some _) q1910 dL_law_1130 rfl
theorem r12_1133 : Sd gd_mt M12 1133 (i_msk [true, true, true, true, true, false, false, false] (i_iceq 2328 1136)) := sd_msk _ (sd_iceq dL_law_1133 (by decide) rfl)
theorem r12_1136 : Sd gd_mt M12 1136 (i_psh (.int 0) 1137) := sd_iconst dL_law_1136 (by decide) rfl
theorem r12_1137 : Sd gd_mt M12 1137 (i_zret) := sd_zret rfl dL_law_1137
theorem r12_1138 : Sd gd_mt M12 1138 (i_ald 1 1139) := sd_aload_n dL_law_1138 rfl rfl
theorem r12_1139 : Sd gd_mt M12 1139 (i_ald 0 1140) := sd_aload_n dL_law_1139 rfl rfl
theorem r12_1140 : Sd gd_mt M12 1140 (i_ild 4 1142) := sd_iload dL_law_1140 rfl
theorem r12_1142 : Sd gd_mt M12 1142 (i_psh (.int 1) 1143) := sd_iconst dL_law_1142 (by decide) rfl
theorem r12_1143 : Sd gd_mt M12 1143 (i_iadd 1144) := sd_iadd dL_law_1143 rfl
theorem r12_1144 : Sd gd_mt M12 1144 (i_aldF 41 1145) := sd_ialdF dL_law_1144 rfl
theorem r12_1145 : Sd gd_mt M12 1145 (i_ald 3 1146) := sd_aload_n dL_law_1145 rfl rfl
theorem r12_1146 : Sd gd_mt M12 1146 (i_cS 25 3 1149) := sd_cS2 e25 cal25 q1276 q1277 dL_law_1146 rfl
theorem r12_1149 : Sd gd_mt M12 1149 (i_msk [true, true, true, true, true, false, false, false] (i_ist 5 1151)) := sd_msk _ (sd_istore dL_law_1149 (by decide) rfl)
theorem r12_1151 : Sd gd_mt M12 1151 (i_ald 2 1152) := sd_aload_n dL_law_1151 rfl rfl
theorem r12_1152 : Sd gd_mt M12 1152 (i_ald 0 1153) := sd_aload_n dL_law_1152 rfl rfl
theorem r12_1153 : Sd gd_mt M12 1153 (i_ild 4 1155) := sd_iload dL_law_1153 rfl
theorem r12_1155 : Sd gd_mt M12 1155 (i_psh (.int 1) 1156) := sd_iconst dL_law_1155 (by decide) rfl
theorem r12_1156 : Sd gd_mt M12 1156 (i_iadd 1157) := sd_iadd dL_law_1156 rfl
theorem r12_1157 : Sd gd_mt M12 1157 (i_aldF 41 1158) := sd_ialdF dL_law_1157 rfl
theorem r12_1158 : Sd gd_mt M12 1158 (i_cV 254 1 8 1161) := sd_cV2 e254 cal254 q1934 q1935 (rfl : gd_cl 8 = some _) q1936 dL_law_1158 rfl
theorem r12_1161 : Sd gd_mt M12 1161 (i_msk [true, true, true, true, true, true, false, false] (i_ist 6 1163)) := sd_msk _ (sd_istore dL_law_1161 (by decide) rfl)
theorem r12_1163 : Sd gd_mt M12 1163 (i_ald 2 1164) := sd_aload_n dL_law_1163 rfl rfl
theorem r12_1164 : Sd gd_mt M12 1164 (i_cV 175 0 8 1167) := sd_cV2 e175 cal175 q1432 q1433 (rfl : gd_cl 8 = some _) q1434 dL_law_1164 rfl
theorem r12_1167 : Sd gd_mt M12 1167 (i_msk [true, true, true, true, true, true, true, false] (i_ild 5 1169)) := sd_msk _ (sd_iload dL_law_1167 rfl)
theorem r12_1169 : Sd gd_mt M12 1169 (i_iceq 1174 1172) := sd_iceq dL_law_1169 (by decide) rfl
theorem r12_1172 : Sd gd_mt M12 1172 (i_psh (.int 0) 1173) := sd_iconst dL_law_1172 (by decide) rfl
theorem r12_1173 : Sd gd_mt M12 1173 (i_zret) := sd_zret rfl dL_law_1173
theorem r12_1174 : Sd gd_mt M12 1174 (i_ild 5 1176) := sd_iload dL_law_1174 rfl
theorem r12_1176 : Sd gd_mt M12 1176 (i_ifne 1191 1179) := sd_ifne dL_law_1176 (by decide) rfl
theorem r12_1179 : Sd gd_mt M12 1179 (i_ald 3 1180) := sd_aload_n dL_law_1179 rfl rfl
theorem r12_1180 : Sd gd_mt M12 1180 (i_psh (.int 0) 1181) := sd_iconst dL_law_1180 (by decide) rfl
theorem r12_1181 : Sd gd_mt M12 1181 (i_aldJ 1182) := sd_lald dL_law_1181 rfl
theorem r12_1182 : Sd gd_mt M12 1182 (i_ild 6 1184) := sd_iload dL_law_1182 rfl
def cl12_13 : List (Nat × gd_I) := [(1105, i_ild 5 1107), (1107, i_ifne 1122 1110), (1110, i_ald 3 1111), (1111, i_psh (.int 0) 1112), (1112, i_aldJ 1113), (1113, i_ild 6 1115), (1115, i_i2l 1116), (1116, i_lcmp 1117), (1117, i_ifeq 1122 1120), (1120, i_psh (.int 0) 1121), (1121, i_zret), (1122, i_msk [true, true, true, true, true, false, false, false] (i_goto 2328)), (1125, i_ald 1 1126), (1126, i_cV 45 0 1 1129), (1129, i_msk [true, true, true, true, true, false, false, false] (i_ald 2 1130)), (1130, i_cV 247 0 8 1133), (1133, i_msk [true, true, true, true, true, false, false, false] (i_iceq 2328 1136)), (1136, i_psh (.int 0) 1137), (1137, i_zret), (1138, i_ald 1 1139), (1139, i_ald 0 1140), (1140, i_ild 4 1142), (1142, i_psh (.int 1) 1143), (1143, i_iadd 1144), (1144, i_aldF 41 1145), (1145, i_ald 3 1146), (1146, i_cS 25 3 1149), (1149, i_msk [true, true, true, true, true, false, false, false] (i_ist 5 1151)), (1151, i_ald 2 1152), (1152, i_ald 0 1153), (1153, i_ild 4 1155), (1155, i_psh (.int 1) 1156), (1156, i_iadd 1157), (1157, i_aldF 41 1158), (1158, i_cV 254 1 8 1161), (1161, i_msk [true, true, true, true, true, true, false, false] (i_ist 6 1163)), (1163, i_ald 2 1164), (1164, i_cV 175 0 8 1167), (1167, i_msk [true, true, true, true, true, true, true, false] (i_ild 5 1169)), (1169, i_iceq 1174 1172), (1172, i_psh (.int 0) 1173), (1173, i_zret), (1174, i_ild 5 1176), (1176, i_ifne 1191 1179), (1179, i_ald 3 1180), (1180, i_psh (.int 0) 1181), (1181, i_aldJ 1182), (1182, i_ild 6 1184)]
theorem cs12_13 : ∀ q ∈ cl12_13, Sd gd_mt M12 q.1 q.2 := gd_ac r12_1105 (gd_ac r12_1107 (gd_ac r12_1110 (gd_ac r12_1111 (gd_ac r12_1112 (gd_ac r12_1113 (gd_ac r12_1115 (gd_ac r12_1116 (gd_ac r12_1117 (gd_ac r12_1120 (gd_ac r12_1121 (gd_ac r12_1122 (gd_ac r12_1125 (gd_ac r12_1126 (gd_ac r12_1129 (gd_ac r12_1130 (gd_ac r12_1133 (gd_ac r12_1136 (gd_ac r12_1137 (gd_ac r12_1138 (gd_ac r12_1139 (gd_ac r12_1140 (gd_ac r12_1142 (gd_ac r12_1143 (gd_ac r12_1144 (gd_ac r12_1145 (gd_ac r12_1146 (gd_ac r12_1149 (gd_ac r12_1151 (gd_ac r12_1152 (gd_ac r12_1153 (gd_ac r12_1155 (gd_ac r12_1156 (gd_ac r12_1157 (gd_ac r12_1158 (gd_ac r12_1161 (gd_ac r12_1163 (gd_ac r12_1164 (gd_ac r12_1167 (gd_ac r12_1169 (gd_ac r12_1172 (gd_ac r12_1173 (gd_ac r12_1174 (gd_ac r12_1176 (gd_ac r12_1179 (gd_ac r12_1180 (gd_ac r12_1181 (gd_ac r12_1182 (gd_an))))))))))))))))))))))))))))))))))))))))))))))))
theorem r12_1184 : Sd gd_mt M12 1184 (i_i2l 1185) := sd_i2l dL_law_1184 rfl
theorem r12_1185 : Sd gd_mt M12 1185 (i_lcmp 1186) := sd_lcmp dL_law_1185 rfl
theorem r12_1186 : Sd gd_mt M12 1186 (i_ifeq 1191 1189) := sd_ifeq dL_law_1186 (by decide) rfl
theorem r12_1189 : Sd gd_mt M12 1189 (i_psh (.int 0) 1190) := sd_iconst dL_law_1189 (by decide) rfl
theorem r12_1190 : Sd gd_mt M12 1190 (i_zret) := sd_zret rfl dL_law_1190
theorem r12_1191 : Sd gd_mt M12 1191 (i_msk [true, true, true, true, true, false, false, false] (i_goto 2328)) := sd_msk _ (sd_goto dL_law_1191 (by decide))
theorem r12_1194 : Sd gd_mt M12 1194 (i_ald 1 1195) := sd_aload_n dL_law_1194 rfl rfl
theorem r12_1195 : Sd gd_mt M12 1195 (i_cV 46 0 1 1198) := sd_cV2 e46 cal46 q469 q470 (rfl : gd_cl 1 = some _) q471 dL_law_1195 rfl
theorem r12_1198 : Sd gd_mt M12 1198 (i_msk [true, true, true, true, true, false, false, false] (i_ald 2 1199)) := sd_msk _ (sd_aload_n dL_law_1198 rfl rfl)
theorem r12_1199 : Sd gd_mt M12 1199 (i_cV 255 0 8 1202) := sd_cV2 e255 cal255 q1938 q1939 (rfl : gd_cl 8 = some _) q1940 dL_law_1199 rfl
theorem r12_1202 : Sd gd_mt M12 1202 (i_msk [true, true, true, true, true, false, false, false] (i_iceq 2328 1205)) := sd_msk _ (sd_iceq dL_law_1202 (by decide) rfl)
theorem r12_1205 : Sd gd_mt M12 1205 (i_psh (.int 0) 1206) := sd_iconst dL_law_1205 (by decide) rfl
theorem r12_1206 : Sd gd_mt M12 1206 (i_zret) := sd_zret rfl dL_law_1206
theorem r12_1207 : Sd gd_mt M12 1207 (i_ald 1 1208) := sd_aload_n dL_law_1207 rfl rfl
theorem r12_1208 : Sd gd_mt M12 1208 (i_ald 0 1209) := sd_aload_n dL_law_1208 rfl rfl
theorem r12_1209 : Sd gd_mt M12 1209 (i_ild 4 1211) := sd_iload dL_law_1209 rfl
theorem r12_1211 : Sd gd_mt M12 1211 (i_psh (.int 1) 1212) := sd_iconst dL_law_1211 (by decide) rfl
theorem r12_1212 : Sd gd_mt M12 1212 (i_iadd 1213) := sd_iadd dL_law_1212 rfl
theorem r12_1213 : Sd gd_mt M12 1213 (i_aldF 41 1214) := sd_ialdF dL_law_1213 rfl
theorem r12_1214 : Sd gd_mt M12 1214 (i_ald 3 1215) := sd_aload_n dL_law_1214 rfl rfl
theorem r12_1215 : Sd gd_mt M12 1215 (i_cS 26 3 1218) := sd_cS2 e26 cal26 q1283 q1284 dL_law_1215 rfl
theorem r12_1218 : Sd gd_mt M12 1218 (i_msk [true, true, true, true, true, false, false, false] (i_ist 5 1220)) := sd_msk _ (sd_istore dL_law_1218 (by decide) rfl)
theorem r12_1220 : Sd gd_mt M12 1220 (i_ald 2 1221) := sd_aload_n dL_law_1220 rfl rfl
theorem r12_1221 : Sd gd_mt M12 1221 (i_ald 0 1222) := sd_aload_n dL_law_1221 rfl rfl
theorem r12_1222 : Sd gd_mt M12 1222 (i_ild 4 1224) := sd_iload dL_law_1222 rfl
theorem r12_1224 : Sd gd_mt M12 1224 (i_psh (.int 1) 1225) := sd_iconst dL_law_1224 (by decide) rfl
theorem r12_1225 : Sd gd_mt M12 1225 (i_iadd 1226) := sd_iadd dL_law_1225 rfl
theorem r12_1226 : Sd gd_mt M12 1226 (i_aldF 41 1227) := sd_ialdF dL_law_1226 rfl
theorem r12_1227 : Sd gd_mt M12 1227 (i_cV 257 1 8 1230) := sd_cV2 e257 cal257 q1946 q1947 (rfl : gd_cl 8 = some _) q1948 dL_law_1227 rfl
theorem r12_1230 : Sd gd_mt M12 1230 (i_msk [true, true, true, true, true, true, false, false] (i_ist 6 1232)) := sd_msk _ (sd_istore dL_law_1230 (by decide) rfl)
theorem r12_1232 : Sd gd_mt M12 1232 (i_ald 2 1233) := sd_aload_n dL_law_1232 rfl rfl
theorem r12_1233 : Sd gd_mt M12 1233 (i_cV 175 0 8 1236) := sd_cV2 e175 cal175 q1432 q1433 (rfl : gd_cl 8 = some _) q1434 dL_law_1233 rfl
theorem r12_1236 : Sd gd_mt M12 1236 (i_msk [true, true, true, true, true, true, true, false] (i_ild 5 1238)) := sd_msk _ (sd_iload dL_law_1236 rfl)
theorem r12_1238 : Sd gd_mt M12 1238 (i_iceq 1243 1241) := sd_iceq dL_law_1238 (by decide) rfl
theorem r12_1241 : Sd gd_mt M12 1241 (i_psh (.int 0) 1242) := sd_iconst dL_law_1241 (by decide) rfl
theorem r12_1242 : Sd gd_mt M12 1242 (i_zret) := sd_zret rfl dL_law_1242
theorem r12_1243 : Sd gd_mt M12 1243 (i_ild 5 1245) := sd_iload dL_law_1243 rfl
theorem r12_1245 : Sd gd_mt M12 1245 (i_ifne 1260 1248) := sd_ifne dL_law_1245 (by decide) rfl
theorem r12_1248 : Sd gd_mt M12 1248 (i_ald 3 1249) := sd_aload_n dL_law_1248 rfl rfl
theorem r12_1249 : Sd gd_mt M12 1249 (i_psh (.int 0) 1250) := sd_iconst dL_law_1249 (by decide) rfl
theorem r12_1250 : Sd gd_mt M12 1250 (i_aldJ 1251) := sd_lald dL_law_1250 rfl
theorem r12_1251 : Sd gd_mt M12 1251 (i_ild 6 1253) := sd_iload dL_law_1251 rfl
theorem r12_1253 : Sd gd_mt M12 1253 (i_i2l 1254) := sd_i2l dL_law_1253 rfl
theorem r12_1254 : Sd gd_mt M12 1254 (i_lcmp 1255) := sd_lcmp dL_law_1254 rfl
theorem r12_1255 : Sd gd_mt M12 1255 (i_ifeq 1260 1258) := sd_ifeq dL_law_1255 (by decide) rfl
theorem r12_1258 : Sd gd_mt M12 1258 (i_psh (.int 0) 1259) := sd_iconst dL_law_1258 (by decide) rfl
theorem r12_1259 : Sd gd_mt M12 1259 (i_zret) := sd_zret rfl dL_law_1259
theorem r12_1260 : Sd gd_mt M12 1260 (i_msk [true, true, true, true, true, false, false, false] (i_goto 2328)) := sd_msk _ (sd_goto dL_law_1260 (by decide))
def cl12_14 : List (Nat × gd_I) := [(1184, i_i2l 1185), (1185, i_lcmp 1186), (1186, i_ifeq 1191 1189), (1189, i_psh (.int 0) 1190), (1190, i_zret), (1191, i_msk [true, true, true, true, true, false, false, false] (i_goto 2328)), (1194, i_ald 1 1195), (1195, i_cV 46 0 1 1198), (1198, i_msk [true, true, true, true, true, false, false, false] (i_ald 2 1199)), (1199, i_cV 255 0 8 1202), (1202, i_msk [true, true, true, true, true, false, false, false] (i_iceq 2328 1205)), (1205, i_psh (.int 0) 1206), (1206, i_zret), (1207, i_ald 1 1208), (1208, i_ald 0 1209), (1209, i_ild 4 1211), (1211, i_psh (.int 1) 1212), (1212, i_iadd 1213), (1213, i_aldF 41 1214), (1214, i_ald 3 1215), (1215, i_cS 26 3 1218), (1218, i_msk [true, true, true, true, true, false, false, false] (i_ist 5 1220)), (1220, i_ald 2 1221), (1221, i_ald 0 1222), (1222, i_ild 4 1224), (1224, i_psh (.int 1) 1225), (1225, i_iadd 1226), (1226, i_aldF 41 1227), (1227, i_cV 257 1 8 1230), (1230, i_msk [true, true, true, true, true, true, false, false] (i_ist 6 1232)), (1232, i_ald 2 1233), (1233, i_cV 175 0 8 1236), (1236, i_msk [true, true, true, true, true, true, true, false] (i_ild 5 1238)), (1238, i_iceq 1243 1241), (1241, i_psh (.int 0) 1242), (1242, i_zret), (1243, i_ild 5 1245), (1245, i_ifne 1260 1248), (1248, i_ald 3 1249), (1249, i_psh (.int 0) 1250), (1250, i_aldJ 1251), (1251, i_ild 6 1253), (1253, i_i2l 1254), (1254, i_lcmp 1255), (1255, i_ifeq 1260 1258), (1258, i_psh (.int 0) 1259), (1259, i_zret), (1260, i_msk [true, true, true, true, true, false, false, false] (i_goto 2328))]
theorem cs12_14 : ∀ q ∈ cl12_14, Sd gd_mt M12 q.1 q.2 := gd_ac r12_1184 (gd_ac r12_1185 (gd_ac r12_1186 (gd_ac r12_1189 (gd_ac r12_1190 (gd_ac r12_1191 (gd_ac r12_1194 (gd_ac r12_1195 (gd_ac r12_1198 (gd_ac r12_1199 (gd_ac r12_1202 (gd_ac r12_1205 (gd_ac r12_1206 (gd_ac r12_1207 (gd_ac r12_1208 (gd_ac r12_1209 (gd_ac r12_1211 (gd_ac r12_1212 (gd_ac r12_1213 (gd_ac r12_1214 (gd_ac r12_1215 (gd_ac r12_1218 (gd_ac r12_1220 (gd_ac r12_1221 (gd_ac r12_1222 (gd_ac r12_1224 (gd_ac r12_1225 (gd_ac r12_1226 (gd_ac r12_1227 (gd_ac r12_1230 (gd_ac r12_1232 (gd_ac r12_1233 (gd_ac r12_1236 (gd_ac r12_1238 (gd_ac r12_1241 (gd_ac r12_1242 (gd_ac r12_1243 (gd_ac r12_1245 (gd_ac r12_1248 (gd_ac r12_1249 (gd_ac r12_1250 (gd_ac r12_1251 (gd_ac r12_1253 (gd_ac r12_1254 (gd_ac r12_1255 (gd_ac r12_1258 (gd_ac r12_1259 (gd_ac r12_1260 (gd_an))))))))))))))))))))))))))))))))))))))))))))))))
theorem r12_1263 : Sd gd_mt M12 1263 (i_ald 1 1264) := sd_aload_n dL_law_1263 rfl rfl
theorem r12_1264 : Sd gd_mt M12 1264 (i_ald 0 1265) := sd_aload_n dL_law_1264 rfl rfl
theorem r12_1265 : Sd gd_mt M12 1265 (i_ild 4 1267) := sd_iload dL_law_1265 rfl
theorem r12_1267 : Sd gd_mt M12 1267 (i_psh (.int 1) 1268) := sd_iconst dL_law_1267 (by decide) rfl
theorem r12_1268 : Sd gd_mt M12 1268 (i_iadd 1269) := sd_iadd dL_law_1268 rfl
theorem r12_1269 : Sd gd_mt M12 1269 (i_aldF 41 1270) := sd_ialdF dL_law_1269 rfl
theorem r12_1270 : Sd gd_mt M12 1270 (i_ald 0 1271) := sd_aload_n dL_law_1270 rfl rfl
theorem r12_1271 : Sd gd_mt M12 1271 (i_ild 4 1273) := sd_iload dL_law_1271 rfl
theorem r12_1273 : Sd gd_mt M12 1273 (i_psh (.int 2) 1274) := sd_iconst dL_law_1273 (by decide) rfl
theorem r12_1274 : Sd gd_mt M12 1274 (i_iadd 1275) := sd_iadd dL_law_1274 rfl
theorem r12_1275 : Sd gd_mt M12 1275 (i_aldF 41 1276) := sd_ialdF dL_law_1275 rfl
theorem r12_1276 : Sd gd_mt M12 1276 (i_ald 3 1277) := sd_aload_n dL_law_1276 rfl rfl
theorem r12_1277 : Sd gd_mt M12 1277 (i_cS 27 4 1280) := sd_cS2 e27 cal27 q1291 q1292 dL_law_1277 rfl
theorem r12_1280 : Sd gd_mt M12 1280 (i_msk [true, true, true, true, true, false, false, false] (i_ist 5 1282)) := sd_msk _ (sd_istore dL_law_1280 (by decide) rfl)
theorem r12_1282 : Sd gd_mt M12 1282 (i_ald 2 1283) := sd_aload_n dL_law_1282 rfl rfl
theorem r12_1283 : Sd gd_mt M12 1283 (i_ald 0 1284) := sd_aload_n dL_law_1283 rfl rfl
theorem r12_1284 : Sd gd_mt M12 1284 (i_ild 4 1286) := sd_iload dL_law_1284 rfl
theorem r12_1286 : Sd gd_mt M12 1286 (i_psh (.int 1) 1287) := sd_iconst dL_law_1286 (by decide) rfl
theorem r12_1287 : Sd gd_mt M12 1287 (i_iadd 1288) := sd_iadd dL_law_1287 rfl
theorem r12_1288 : Sd gd_mt M12 1288 (i_aldF 41 1289) := sd_ialdF dL_law_1288 rfl
theorem r12_1289 : Sd gd_mt M12 1289 (i_ald 0 1290) := sd_aload_n dL_law_1289 rfl rfl
theorem r12_1290 : Sd gd_mt M12 1290 (i_ild 4 1292) := sd_iload dL_law_1290 rfl
theorem r12_1292 : Sd gd_mt M12 1292 (i_psh (.int 2) 1293) := sd_iconst dL_law_1292 (by decide) rfl
theorem r12_1293 : Sd gd_mt M12 1293 (i_iadd 1294) := sd_iadd dL_law_1293 rfl
theorem r12_1294 : Sd gd_mt M12 1294 (i_aldF 41 1295) := sd_ialdF dL_law_1294 rfl
theorem r12_1295 : Sd gd_mt M12 1295 (i_cV 258 2 8 1298) := sd_cV2 e258 cal258 q1950 q1951 (rfl : gd_cl 8 = some _) q1952 dL_law_1295 rfl
theorem r12_1298 : Sd gd_mt M12 1298 (i_msk [true, true, true, true, true, true, false, false] (i_ist 6 1300)) := sd_msk _ (sd_istore dL_law_1298 (by decide) rfl)
theorem r12_1300 : Sd gd_mt M12 1300 (i_ald 2 1301) := sd_aload_n dL_law_1300 rfl rfl
theorem r12_1301 : Sd gd_mt M12 1301 (i_cV 175 0 8 1304) := sd_cV2 e175 cal175 q1432 q1433 (rfl : gd_cl 8 = some _) q1434 dL_law_1301 rfl
theorem r12_1304 : Sd gd_mt M12 1304 (i_msk [true, true, true, true, true, true, true, false] (i_ild 5 1306)) := sd_msk _ (sd_iload dL_law_1304 rfl)
theorem r12_1306 : Sd gd_mt M12 1306 (i_iceq 1311 1309) := sd_iceq dL_law_1306 (by decide) rfl
theorem r12_1309 : Sd gd_mt M12 1309 (i_psh (.int 0) 1310) := sd_iconst dL_law_1309 (by decide) rfl
theorem r12_1310 : Sd gd_mt M12 1310 (i_zret) := sd_zret rfl dL_law_1310
theorem r12_1311 : Sd gd_mt M12 1311 (i_ild 5 1313) := sd_iload dL_law_1311 rfl
theorem r12_1313 : Sd gd_mt M12 1313 (i_ifne 1328 1316) := sd_ifne dL_law_1313 (by decide) rfl
theorem r12_1316 : Sd gd_mt M12 1316 (i_ald 3 1317) := sd_aload_n dL_law_1316 rfl rfl
theorem r12_1317 : Sd gd_mt M12 1317 (i_psh (.int 0) 1318) := sd_iconst dL_law_1317 (by decide) rfl
theorem r12_1318 : Sd gd_mt M12 1318 (i_aldJ 1319) := sd_lald dL_law_1318 rfl
theorem r12_1319 : Sd gd_mt M12 1319 (i_ild 6 1321) := sd_iload dL_law_1319 rfl
theorem r12_1321 : Sd gd_mt M12 1321 (i_i2l 1322) := sd_i2l dL_law_1321 rfl
theorem r12_1322 : Sd gd_mt M12 1322 (i_lcmp 1323) := sd_lcmp dL_law_1322 rfl
theorem r12_1323 : Sd gd_mt M12 1323 (i_ifeq 1328 1326) := sd_ifeq dL_law_1323 (by decide) rfl
theorem r12_1326 : Sd gd_mt M12 1326 (i_psh (.int 0) 1327) := sd_iconst dL_law_1326 (by decide) rfl
theorem r12_1327 : Sd gd_mt M12 1327 (i_zret) := sd_zret rfl dL_law_1327
theorem r12_1328 : Sd gd_mt M12 1328 (i_msk [true, true, true, true, true, false, false, false] (i_goto 2328)) := sd_msk _ (sd_goto dL_law_1328 (by decide))
theorem r12_1331 : Sd gd_mt M12 1331 (i_ald 1 1332) := sd_aload_n dL_law_1331 rfl rfl
theorem r12_1332 : Sd gd_mt M12 1332 (i_ald 0 1333) := sd_aload_n dL_law_1332 rfl rfl
theorem r12_1333 : Sd gd_mt M12 1333 (i_ild 4 1335) := sd_iload dL_law_1333 rfl
def cl12_15 : List (Nat × gd_I) := [(1263, i_ald 1 1264), (1264, i_ald 0 1265), (1265, i_ild 4 1267), (1267, i_psh (.int 1) 1268), (1268, i_iadd 1269), (1269, i_aldF 41 1270), (1270, i_ald 0 1271), (1271, i_ild 4 1273), (1273, i_psh (.int 2) 1274), (1274, i_iadd 1275), (1275, i_aldF 41 1276), (1276, i_ald 3 1277), (1277, i_cS 27 4 1280), (1280, i_msk [true, true, true, true, true, false, false, false] (i_ist 5 1282)), (1282, i_ald 2 1283), (1283, i_ald 0 1284), (1284, i_ild 4 1286), (1286, i_psh (.int 1) 1287), (1287, i_iadd 1288), (1288, i_aldF 41 1289), (1289, i_ald 0 1290), (1290, i_ild 4 1292), (1292, i_psh (.int 2) 1293), (1293, i_iadd 1294), (1294, i_aldF 41 1295), (1295, i_cV 258 2 8 1298), (1298, i_msk [true, true, true, true, true, true, false, false] (i_ist 6 1300)), (1300, i_ald 2 1301), (1301, i_cV 175 0 8 1304), (1304, i_msk [true, true, true, true, true, true, true, false] (i_ild 5 1306)), (1306, i_iceq 1311 1309), (1309, i_psh (.int 0) 1310), (1310, i_zret), (1311, i_ild 5 1313), (1313, i_ifne 1328 1316), (1316, i_ald 3 1317), (1317, i_psh (.int 0) 1318), (1318, i_aldJ 1319), (1319, i_ild 6 1321), (1321, i_i2l 1322), (1322, i_lcmp 1323), (1323, i_ifeq 1328 1326), (1326, i_psh (.int 0) 1327), (1327, i_zret), (1328, i_msk [true, true, true, true, true, false, false, false] (i_goto 2328)), (1331, i_ald 1 1332), (1332, i_ald 0 1333), (1333, i_ild 4 1335)]
theorem cs12_15 : ∀ q ∈ cl12_15, Sd gd_mt M12 q.1 q.2 := gd_ac r12_1263 (gd_ac r12_1264 (gd_ac r12_1265 (gd_ac r12_1267 (gd_ac r12_1268 (gd_ac r12_1269 (gd_ac r12_1270 (gd_ac r12_1271 (gd_ac r12_1273 (gd_ac r12_1274 (gd_ac r12_1275 (gd_ac r12_1276 (gd_ac r12_1277 (gd_ac r12_1280 (gd_ac r12_1282 (gd_ac r12_1283 (gd_ac r12_1284 (gd_ac r12_1286 (gd_ac r12_1287 (gd_ac r12_1288 (gd_ac r12_1289 (gd_ac r12_1290 (gd_ac r12_1292 (gd_ac r12_1293 (gd_ac r12_1294 (gd_ac r12_1295 (gd_ac r12_1298 (gd_ac r12_1300 (gd_ac r12_1301 (gd_ac r12_1304 (gd_ac r12_1306 (gd_ac r12_1309 (gd_ac r12_1310 (gd_ac r12_1311 (gd_ac r12_1313 (gd_ac r12_1316 (gd_ac r12_1317 (gd_ac r12_1318 (gd_ac r12_1319 (gd_ac r12_1321 (gd_ac r12_1322 (gd_ac r12_1323 (gd_ac r12_1326 (gd_ac r12_1327 (gd_ac r12_1328 (gd_ac r12_1331 (gd_ac r12_1332 (gd_ac r12_1333 (gd_an))))))))))))))))))))))))))))))))))))))))))))))))
theorem r12_1335 : Sd gd_mt M12 1335 (i_psh (.int 1) 1336) := sd_iconst dL_law_1335 (by decide) rfl
theorem r12_1336 : Sd gd_mt M12 1336 (i_iadd 1337) := sd_iadd dL_law_1336 rfl
theorem r12_1337 : Sd gd_mt M12 1337 (i_aldF 41 1338) := sd_ialdF dL_law_1337 rfl
theorem r12_1338 : Sd gd_mt M12 1338 (i_ald 0 1339) := sd_aload_n dL_law_1338 rfl rfl
theorem r12_1339 : Sd gd_mt M12 1339 (i_ild 4 1341) := sd_iload dL_law_1339 rfl
theorem r12_1341 : Sd gd_mt M12 1341 (i_psh (.int 2) 1342) := sd_iconst dL_law_1341 (by decide) rfl
theorem r12_1342 : Sd gd_mt M12 1342 (i_iadd 1343) := sd_iadd dL_law_1342 rfl
theorem r12_1343 : Sd gd_mt M12 1343 (i_aldF 41 1344) := sd_ialdF dL_law_1343 rfl
theorem r12_1344 : Sd gd_mt M12 1344 (i_ald 3 1345) := sd_aload_n dL_law_1344 rfl rfl
theorem r12_1345 : Sd gd_mt M12 1345 (i_cS 28 4 1348) := sd_cS2 e28 cal28 q1302 q1303 dL_law_1345 rfl
theorem r12_1348 : Sd gd_mt M12 1348 (i_msk [true, true, true, true, true, false, false, false] (i_ist 5 1350)) := sd_msk _ (sd_istore dL_law_1348 (by decide) rfl)
theorem r12_1350 : Sd gd_mt M12 1350 (i_ald 2 1351) := sd_aload_n dL_law_1350 rfl rfl
theorem r12_1351 : Sd gd_mt M12 1351 (i_ald 0 1352) := sd_aload_n dL_law_1351 rfl rfl
theorem r12_1352 : Sd gd_mt M12 1352 (i_ild 4 1354) := sd_iload dL_law_1352 rfl
theorem r12_1354 : Sd gd_mt M12 1354 (i_psh (.int 1) 1355) := sd_iconst dL_law_1354 (by decide) rfl
theorem r12_1355 : Sd gd_mt M12 1355 (i_iadd 1356) := sd_iadd dL_law_1355 rfl
theorem r12_1356 : Sd gd_mt M12 1356 (i_aldF 41 1357) := sd_ialdF dL_law_1356 rfl
theorem r12_1357 : Sd gd_mt M12 1357 (i_ald 0 1358) := sd_aload_n dL_law_1357 rfl rfl
theorem r12_1358 : Sd gd_mt M12 1358 (i_ild 4 1360) := sd_iload dL_law_1358 rfl
theorem r12_1360 : Sd gd_mt M12 1360 (i_psh (.int 2) 1361) := sd_iconst dL_law_1360 (by decide) rfl
theorem r12_1361 : Sd gd_mt M12 1361 (i_iadd 1362) := sd_iadd dL_law_1361 rfl
theorem r12_1362 : Sd gd_mt M12 1362 (i_aldF 41 1363) := sd_ialdF dL_law_1362 rfl
theorem r12_1363 : Sd gd_mt M12 1363 (i_cV 260 2 8 1366) := sd_cV2 e260 cal260 q1958 q1959 (rfl : gd_cl 8 = some _) q1960 dL_law_1363 rfl
theorem r12_1366 : Sd gd_mt M12 1366 (i_msk [true, true, true, true, true, true, false, false] (i_ist 6 1368)) := sd_msk _ (sd_istore dL_law_1366 (by decide) rfl)
theorem r12_1368 : Sd gd_mt M12 1368 (i_ald 2 1369) := sd_aload_n dL_law_1368 rfl rfl
theorem r12_1369 : Sd gd_mt M12 1369 (i_cV 175 0 8 1372) := sd_cV2 e175 cal175 q1432 q1433 (rfl : gd_cl 8 = some _) q1434 dL_law_1369 rfl
theorem r12_1372 : Sd gd_mt M12 1372 (i_msk [true, true, true, true, true, true, true, false] (i_ild 5 1374)) := sd_msk _ (sd_iload dL_law_1372 rfl)
theorem r12_1374 : Sd gd_mt M12 1374 (i_iceq 1379 1377) := sd_iceq dL_law_1374 (by decide) rfl
theorem r12_1377 : Sd gd_mt M12 1377 (i_psh (.int 0) 1378) := sd_iconst dL_law_1377 (by decide) rfl
theorem r12_1378 : Sd gd_mt M12 1378 (i_zret) := sd_zret rfl dL_law_1378
theorem r12_1379 : Sd gd_mt M12 1379 (i_ild 5 1381) := sd_iload dL_law_1379 rfl
theorem r12_1381 : Sd gd_mt M12 1381 (i_ifne 1396 1384) := sd_ifne dL_law_1381 (by decide) rfl
theorem r12_1384 : Sd gd_mt M12 1384 (i_ald 3 1385) := sd_aload_n dL_law_1384 rfl rfl
theorem r12_1385 : Sd gd_mt M12 1385 (i_psh (.int 0) 1386) := sd_iconst dL_law_1385 (by decide) rfl
theorem r12_1386 : Sd gd_mt M12 1386 (i_aldJ 1387) := sd_lald dL_law_1386 rfl
theorem r12_1387 : Sd gd_mt M12 1387 (i_ild 6 1389) := sd_iload dL_law_1387 rfl
theorem r12_1389 : Sd gd_mt M12 1389 (i_i2l 1390) := sd_i2l dL_law_1389 rfl
theorem r12_1390 : Sd gd_mt M12 1390 (i_lcmp 1391) := sd_lcmp dL_law_1390 rfl
theorem r12_1391 : Sd gd_mt M12 1391 (i_ifeq 1396 1394) := sd_ifeq dL_law_1391 (by decide) rfl
theorem r12_1394 : Sd gd_mt M12 1394 (i_psh (.int 0) 1395) := sd_iconst dL_law_1394 (by decide) rfl
theorem r12_1395 : Sd gd_mt M12 1395 (i_zret) := sd_zret rfl dL_law_1395
theorem r12_1396 : Sd gd_mt M12 1396 (i_msk [true, true, true, true, true, false, false, false] (i_goto 2328)) := sd_msk _ (sd_goto dL_law_1396 (by decide))
theorem r12_1399 : Sd gd_mt M12 1399 (i_ald 1 1400) := sd_aload_n dL_law_1399 rfl rfl
theorem r12_1400 : Sd gd_mt M12 1400 (i_ald 0 1401) := sd_aload_n dL_law_1400 rfl rfl
theorem r12_1401 : Sd gd_mt M12 1401 (i_ild 4 1403) := sd_iload dL_law_1401 rfl
theorem r12_1403 : Sd gd_mt M12 1403 (i_psh (.int 1) 1404) := sd_iconst dL_law_1403 (by decide) rfl
theorem r12_1404 : Sd gd_mt M12 1404 (i_iadd 1405) := sd_iadd dL_law_1404 rfl
theorem r12_1405 : Sd gd_mt M12 1405 (i_aldF 41 1406) := sd_ialdF dL_law_1405 rfl
def cl12_16 : List (Nat × gd_I) := [(1335, i_psh (.int 1) 1336), (1336, i_iadd 1337), (1337, i_aldF 41 1338), (1338, i_ald 0 1339), (1339, i_ild 4 1341), (1341, i_psh (.int 2) 1342), (1342, i_iadd 1343), (1343, i_aldF 41 1344), (1344, i_ald 3 1345), (1345, i_cS 28 4 1348), (1348, i_msk [true, true, true, true, true, false, false, false] (i_ist 5 1350)), (1350, i_ald 2 1351), (1351, i_ald 0 1352), (1352, i_ild 4 1354), (1354, i_psh (.int 1) 1355), (1355, i_iadd 1356), (1356, i_aldF 41 1357), (1357, i_ald 0 1358), (1358, i_ild 4 1360), (1360, i_psh (.int 2) 1361), (1361, i_iadd 1362), (1362, i_aldF 41 1363), (1363, i_cV 260 2 8 1366), (1366, i_msk [true, true, true, true, true, true, false, false] (i_ist 6 1368)), (1368, i_ald 2 1369), (1369, i_cV 175 0 8 1372), (1372, i_msk [true, true, true, true, true, true, true, false] (i_ild 5 1374)), (1374, i_iceq 1379 1377), (1377, i_psh (.int 0) 1378), (1378, i_zret), (1379, i_ild 5 1381), (1381, i_ifne 1396 1384), (1384, i_ald 3 1385), (1385, i_psh (.int 0) 1386), (1386, i_aldJ 1387), (1387, i_ild 6 1389), (1389, i_i2l 1390), (1390, i_lcmp 1391), (1391, i_ifeq 1396 1394), (1394, i_psh (.int 0) 1395), (1395, i_zret), (1396, i_msk [true, true, true, true, true, false, false, false] (i_goto 2328)), (1399, i_ald 1 1400), (1400, i_ald 0 1401), (1401, i_ild 4 1403), (1403, i_psh (.int 1) 1404), (1404, i_iadd 1405), (1405, i_aldF 41 1406)]
theorem cs12_16 : ∀ q ∈ cl12_16, Sd gd_mt M12 q.1 q.2 := gd_ac r12_1335 (gd_ac r12_1336 (gd_ac r12_1337 (gd_ac r12_1338 (gd_ac r12_1339 (gd_ac r12_1341 (gd_ac r12_1342 (gd_ac r12_1343 (gd_ac r12_1344 (gd_ac r12_1345 (gd_ac r12_1348 (gd_ac r12_1350 (gd_ac r12_1351 (gd_ac r12_1352 (gd_ac r12_1354 (gd_ac r12_1355 (gd_ac r12_1356 (gd_ac r12_1357 (gd_ac r12_1358 (gd_ac r12_1360 (gd_ac r12_1361 (gd_ac r12_1362 (gd_ac r12_1363 (gd_ac r12_1366 (gd_ac r12_1368 (gd_ac r12_1369 (gd_ac r12_1372 (gd_ac r12_1374 (gd_ac r12_1377 (gd_ac r12_1378 (gd_ac r12_1379 (gd_ac r12_1381 (gd_ac r12_1384 (gd_ac r12_1385 (gd_ac r12_1386 (gd_ac r12_1387 (gd_ac r12_1389 (gd_ac r12_1390 (gd_ac r12_1391 (gd_ac r12_1394 (gd_ac r12_1395 (gd_ac r12_1396 (gd_ac r12_1399 (gd_ac r12_1400 (gd_ac r12_1401 (gd_ac r12_1403 (gd_ac r12_1404 (gd_ac r12_1405 (gd_an))))))))))))))))))))))))))))))))))))))))))))))))
theorem r12_1406 : Sd gd_mt M12 1406 (i_ald 0 1407) := sd_aload_n dL_law_1406 rfl rfl
theorem r12_1407 : Sd gd_mt M12 1407 (i_ild 4 1409) := sd_iload dL_law_1407 rfl
theorem r12_1409 : Sd gd_mt M12 1409 (i_psh (.int 2) 1410) := sd_iconst dL_law_1409 (by decide) rfl
theorem r12_1410 : Sd gd_mt M12 1410 (i_iadd 1411) := sd_iadd dL_law_1410 rfl
theorem r12_1411 : Sd gd_mt M12 1411 (i_aldF 41 1412) := sd_ialdF dL_law_1411 rfl
theorem r12_1412 : Sd gd_mt M12 1412 (i_ald 0 1413) := sd_aload_n dL_law_1412 rfl rfl
theorem r12_1413 : Sd gd_mt M12 1413 (i_ild 4 1415) := sd_iload dL_law_1413 rfl
theorem r12_1415 : Sd gd_mt M12 1415 (i_psh (.int 3) 1416) := sd_iconst dL_law_1415 (by decide) rfl
theorem r12_1416 : Sd gd_mt M12 1416 (i_iadd 1417) := sd_iadd dL_law_1416 rfl
theorem r12_1417 : Sd gd_mt M12 1417 (i_aldF 41 1418) := sd_ialdF dL_law_1417 rfl
theorem r12_1418 : Sd gd_mt M12 1418 (i_ald 0 1419) := sd_aload_n dL_law_1418 rfl rfl
theorem r12_1419 : Sd gd_mt M12 1419 (i_ild 4 1421) := sd_iload dL_law_1419 rfl
theorem r12_1421 : Sd gd_mt M12 1421 (i_psh (.int 4) 1422) := sd_iconst dL_law_1421 (by decide) rfl
theorem r12_1422 : Sd gd_mt M12 1422 (i_iadd 1423) := sd_iadd dL_law_1422 rfl
theorem r12_1423 : Sd gd_mt M12 1423 (i_aldF 41 1424) := sd_ialdF dL_law_1423 rfl
theorem r12_1424 : Sd gd_mt M12 1424 (i_ald 3 1425) := sd_aload_n dL_law_1424 rfl rfl
theorem r12_1425 : Sd gd_mt M12 1425 (i_cS 29 6 1428) := sd_cS2 e29 cal29 q1317 q1318 dL_law_1425 rfl
theorem r12_1428 : Sd gd_mt M12 1428 (i_msk [true, true, true, true, true, false, false, false] (i_ist 5 1430)) := sd_msk _ (sd_istore dL_law_1428 (by decide) rfl)
theorem r12_1430 : Sd gd_mt M12 1430 (i_ald 2 1431) := sd_aload_n dL_law_1430 rfl rfl
theorem r12_1431 : Sd gd_mt M12 1431 (i_ald 0 1432) := sd_aload_n dL_law_1431 rfl rfl
theorem r12_1432 : Sd gd_mt M12 1432 (i_ild 4 1434) := sd_iload dL_law_1432 rfl
theorem r12_1434 : Sd gd_mt M12 1434 (i_psh (.int 1) 1435) := sd_iconst dL_law_1434 (by decide) rfl
theorem r12_1435 : Sd gd_mt M12 1435 (i_iadd 1436) := sd_iadd dL_law_1435 rfl
theorem r12_1436 : Sd gd_mt M12 1436 (i_aldF 41 1437) := sd_ialdF dL_law_1436 rfl
theorem r12_1437 : Sd gd_mt M12 1437 (i_ald 0 1438) := sd_aload_n dL_law_1437 rfl rfl
theorem r12_1438 : Sd gd_mt M12 1438 (i_ild 4 1440) := sd_iload dL_law_1438 rfl
theorem r12_1440 : Sd gd_mt M12 1440 (i_psh (.int 2) 1441) := sd_iconst dL_law_1440 (by decide) rfl
theorem r12_1441 : Sd gd_mt M12 1441 (i_iadd 1442) := sd_iadd dL_law_1441 rfl
theorem r12_1442 : Sd gd_mt M12 1442 (i_aldF 41 1443) := sd_ialdF dL_law_1442 rfl
theorem r12_1443 : Sd gd_mt M12 1443 (i_ald 0 1444) := sd_aload_n dL_law_1443 rfl rfl
theorem r12_1444 : Sd gd_mt M12 1444 (i_ild 4 1446) := sd_iload dL_law_1444 rfl
theorem r12_1446 : Sd gd_mt M12 1446 (i_psh (.int 3) 1447) := sd_iconst dL_law_1446 (by decide) rfl
theorem r12_1447 : Sd gd_mt M12 1447 (i_iadd 1448) := sd_iadd dL_law_1447 rfl
theorem r12_1448 : Sd gd_mt M12 1448 (i_aldF 41 1449) := sd_ialdF dL_law_1448 rfl
theorem r12_1449 : Sd gd_mt M12 1449 (i_ald 0 1450) := sd_aload_n dL_law_1449 rfl rfl
theorem r12_1450 : Sd gd_mt M12 1450 (i_ild 4 1452) := sd_iload dL_law_1450 rfl
theorem r12_1452 : Sd gd_mt M12 1452 (i_psh (.int 4) 1453) := sd_iconst dL_law_1452 (by decide) rfl
theorem r12_1453 : Sd gd_mt M12 1453 (i_iadd 1454) := sd_iadd dL_law_1453 rfl
theorem r12_1454 : Sd gd_mt M12 1454 (i_aldF 41 1455) := sd_ialdF dL_law_1454 rfl
theorem r12_1455 : Sd gd_mt M12 1455 (i_cV 261 4 8 1458) := sd_cV2 e261 cal261 q1962 q1963 (rfl : gd_cl 8 = some _) q1964 dL_law_1455 rfl
theorem r12_1458 : Sd gd_mt M12 1458 (i_msk [true, true, true, true, true, true, false, false] (i_lst 6 1460)) := sd_msk _ (sd_lstore dL_law_1458 (by decide) rfl)
theorem r12_1460 : Sd gd_mt M12 1460 (i_ald 2 1461) := sd_aload_n dL_law_1460 rfl rfl
theorem r12_1461 : Sd gd_mt M12 1461 (i_cV 175 0 8 1464) := sd_cV2 e175 cal175 q1432 q1433 (rfl : gd_cl 8 = some _) q1434 dL_law_1461 rfl
theorem r12_1464 : Sd gd_mt M12 1464 (i_msk [true, true, true, true, true, true, true, false] (i_ild 5 1466)) := sd_msk _ (sd_iload dL_law_1464 rfl)
theorem r12_1466 : Sd gd_mt M12 1466 (i_iceq 1471 1469) := sd_iceq dL_law_1466 (by decide) rfl
theorem r12_1469 : Sd gd_mt M12 1469 (i_psh (.int 0) 1470) := sd_iconst dL_law_1469 (by decide) rfl
theorem r12_1470 : Sd gd_mt M12 1470 (i_zret) := sd_zret rfl dL_law_1470
theorem r12_1471 : Sd gd_mt M12 1471 (i_ild 5 1473) := sd_iload dL_law_1471 rfl
def cl12_17 : List (Nat × gd_I) := [(1406, i_ald 0 1407), (1407, i_ild 4 1409), (1409, i_psh (.int 2) 1410), (1410, i_iadd 1411), (1411, i_aldF 41 1412), (1412, i_ald 0 1413), (1413, i_ild 4 1415), (1415, i_psh (.int 3) 1416), (1416, i_iadd 1417), (1417, i_aldF 41 1418), (1418, i_ald 0 1419), (1419, i_ild 4 1421), (1421, i_psh (.int 4) 1422), (1422, i_iadd 1423), (1423, i_aldF 41 1424), (1424, i_ald 3 1425), (1425, i_cS 29 6 1428), (1428, i_msk [true, true, true, true, true, false, false, false] (i_ist 5 1430)), (1430, i_ald 2 1431), (1431, i_ald 0 1432), (1432, i_ild 4 1434), (1434, i_psh (.int 1) 1435), (1435, i_iadd 1436), (1436, i_aldF 41 1437), (1437, i_ald 0 1438), (1438, i_ild 4 1440), (1440, i_psh (.int 2) 1441), (1441, i_iadd 1442), (1442, i_aldF 41 1443), (1443, i_ald 0 1444), (1444, i_ild 4 1446), (1446, i_psh (.int 3) 1447), (1447, i_iadd 1448), (1448, i_aldF 41 1449), (1449, i_ald 0 1450), (1450, i_ild 4 1452), (1452, i_psh (.int 4) 1453), (1453, i_iadd 1454), (1454, i_aldF 41 1455), (1455, i_cV 261 4 8 1458), (1458, i_msk [true, true, true, true, true, true, false, false] (i_lst 6 1460)), (1460, i_ald 2 1461), (1461, i_cV 175 0 8 1464), (1464, i_msk [true, true, true, true, true, true, true, false] (i_ild 5 1466)), (1466, i_iceq 1471 1469), (1469, i_psh (.int 0) 1470), (1470, i_zret), (1471, i_ild 5 1473)]
theorem cs12_17 : ∀ q ∈ cl12_17, Sd gd_mt M12 q.1 q.2 := gd_ac r12_1406 (gd_ac r12_1407 (gd_ac r12_1409 (gd_ac r12_1410 (gd_ac r12_1411 (gd_ac r12_1412 (gd_ac r12_1413 (gd_ac r12_1415 (gd_ac r12_1416 (gd_ac r12_1417 (gd_ac r12_1418 (gd_ac r12_1419 (gd_ac r12_1421 (gd_ac r12_1422 (gd_ac r12_1423 (gd_ac r12_1424 (gd_ac r12_1425 (gd_ac r12_1428 (gd_ac r12_1430 (gd_ac r12_1431 (gd_ac r12_1432 (gd_ac r12_1434 (gd_ac r12_1435 (gd_ac r12_1436 (gd_ac r12_1437 (gd_ac r12_1438 (gd_ac r12_1440 (gd_ac r12_1441 (gd_ac r12_1442 (gd_ac r12_1443 (gd_ac r12_1444 (gd_ac r12_1446 (gd_ac r12_1447 (gd_ac r12_1448 (gd_ac r12_1449 (gd_ac r12_1450 (gd_ac r12_1452 (gd_ac r12_1453 (gd_ac r12_1454 (gd_ac r12_1455 (gd_ac r12_1458 (gd_ac r12_1460 (gd_ac r12_1461 (gd_ac r12_1464 (gd_ac r12_1466 (gd_ac r12_1469 (gd_ac r12_1470 (gd_ac r12_1471 (gd_an))))))))))))))))))))))))))))))))))))))))))))))))
theorem r12_1473 : Sd gd_mt M12 1473 (i_ifne 1487 1476) := sd_ifne dL_law_1473 (by decide) rfl
theorem r12_1476 : Sd gd_mt M12 1476 (i_ald 3 1477) := sd_aload_n dL_law_1476 rfl rfl
theorem r12_1477 : Sd gd_mt M12 1477 (i_psh (.int 0) 1478) := sd_iconst dL_law_1477 (by decide) rfl
theorem r12_1478 : Sd gd_mt M12 1478 (i_aldJ 1479) := sd_lald dL_law_1478 rfl
theorem r12_1479 : Sd gd_mt M12 1479 (i_lld 6 1481) := sd_lload dL_law_1479 rfl
theorem r12_1481 : Sd gd_mt M12 1481 (i_lcmp 1482) := sd_lcmp dL_law_1481 rfl
theorem r12_1482 : Sd gd_mt M12 1482 (i_ifeq 1487 1485) := sd_ifeq dL_law_1482 (by decide) rfl
theorem r12_1485 : Sd gd_mt M12 1485 (i_psh (.int 0) 1486) := sd_iconst dL_law_1485 (by decide) rfl
theorem r12_1486 : Sd gd_mt M12 1486 (i_zret) := sd_zret rfl dL_law_1486
theorem r12_1487 : Sd gd_mt M12 1487 (i_msk [true, true, true, true, true, false, false, false] (i_goto 2328)) := sd_msk _ (sd_goto dL_law_1487 (by decide))
theorem r12_1490 : Sd gd_mt M12 1490 (i_ald 1 1491) := sd_aload_n dL_law_1490 rfl rfl
theorem r12_1491 : Sd gd_mt M12 1491 (i_ald 0 1492) := sd_aload_n dL_law_1491 rfl rfl
theorem r12_1492 : Sd gd_mt M12 1492 (i_ild 4 1494) := sd_iload dL_law_1492 rfl
theorem r12_1494 : Sd gd_mt M12 1494 (i_psh (.int 1) 1495) := sd_iconst dL_law_1494 (by decide) rfl
theorem r12_1495 : Sd gd_mt M12 1495 (i_iadd 1496) := sd_iadd dL_law_1495 rfl
theorem r12_1496 : Sd gd_mt M12 1496 (i_aldF 41 1497) := sd_ialdF dL_law_1496 rfl
theorem r12_1497 : Sd gd_mt M12 1497 (i_ald 0 1498) := sd_aload_n dL_law_1497 rfl rfl
theorem r12_1498 : Sd gd_mt M12 1498 (i_ild 4 1500) := sd_iload dL_law_1498 rfl
theorem r12_1500 : Sd gd_mt M12 1500 (i_psh (.int 2) 1501) := sd_iconst dL_law_1500 (by decide) rfl
theorem r12_1501 : Sd gd_mt M12 1501 (i_iadd 1502) := sd_iadd dL_law_1501 rfl
theorem r12_1502 : Sd gd_mt M12 1502 (i_aldF 41 1503) := sd_ialdF dL_law_1502 rfl
theorem r12_1503 : Sd gd_mt M12 1503 (i_ald 0 1504) := sd_aload_n dL_law_1503 rfl rfl
theorem r12_1504 : Sd gd_mt M12 1504 (i_ild 4 1506) := sd_iload dL_law_1504 rfl
theorem r12_1506 : Sd gd_mt M12 1506 (i_psh (.int 3) 1507) := sd_iconst dL_law_1506 (by decide) rfl
theorem r12_1507 : Sd gd_mt M12 1507 (i_iadd 1508) := sd_iadd dL_law_1507 rfl
theorem r12_1508 : Sd gd_mt M12 1508 (i_aldF 41 1509) := sd_ialdF dL_law_1508 rfl
theorem r12_1509 : Sd gd_mt M12 1509 (i_ald 3 1510) := sd_aload_n dL_law_1509 rfl rfl
theorem r12_1510 : Sd gd_mt M12 1510 (i_cS 30 5 1513) := sd_cS2 e30 cal30 q1327 q1328 dL_law_1510 rfl
theorem r12_1513 : Sd gd_mt M12 1513 (i_msk [true, true, true, true, true, false, false, false] (i_ist 5 1515)) := sd_msk _ (sd_istore dL_law_1513 (by decide) rfl)
theorem r12_1515 : Sd gd_mt M12 1515 (i_ald 2 1516) := sd_aload_n dL_law_1515 rfl rfl
theorem r12_1516 : Sd gd_mt M12 1516 (i_ald 0 1517) := sd_aload_n dL_law_1516 rfl rfl
theorem r12_1517 : Sd gd_mt M12 1517 (i_ild 4 1519) := sd_iload dL_law_1517 rfl
theorem r12_1519 : Sd gd_mt M12 1519 (i_psh (.int 1) 1520) := sd_iconst dL_law_1519 (by decide) rfl
theorem r12_1520 : Sd gd_mt M12 1520 (i_iadd 1521) := sd_iadd dL_law_1520 rfl
theorem r12_1521 : Sd gd_mt M12 1521 (i_aldF 41 1522) := sd_ialdF dL_law_1521 rfl
theorem r12_1522 : Sd gd_mt M12 1522 (i_ald 0 1523) := sd_aload_n dL_law_1522 rfl rfl
theorem r12_1523 : Sd gd_mt M12 1523 (i_ild 4 1525) := sd_iload dL_law_1523 rfl
theorem r12_1525 : Sd gd_mt M12 1525 (i_psh (.int 2) 1526) := sd_iconst dL_law_1525 (by decide) rfl
theorem r12_1526 : Sd gd_mt M12 1526 (i_iadd 1527) := sd_iadd dL_law_1526 rfl
theorem r12_1527 : Sd gd_mt M12 1527 (i_aldF 41 1528) := sd_ialdF dL_law_1527 rfl
theorem r12_1528 : Sd gd_mt M12 1528 (i_ald 0 1529) := sd_aload_n dL_law_1528 rfl rfl
theorem r12_1529 : Sd gd_mt M12 1529 (i_ild 4 1531) := sd_iload dL_law_1529 rfl
theorem r12_1531 : Sd gd_mt M12 1531 (i_psh (.int 3) 1532) := sd_iconst dL_law_1531 (by decide) rfl
theorem r12_1532 : Sd gd_mt M12 1532 (i_iadd 1533) := sd_iadd dL_law_1532 rfl
theorem r12_1533 : Sd gd_mt M12 1533 (i_aldF 41 1534) := sd_ialdF dL_law_1533 rfl
theorem r12_1534 : Sd gd_mt M12 1534 (i_cV 263 3 8 1537) := sd_cV2 e263 cal263 q1970 q1971 (rfl : gd_cl 8 = some _) q1972 dL_law_1534 rfl
theorem r12_1537 : Sd gd_mt M12 1537 (i_msk [true, true, true, true, true, true, false, false] (i_ist 6 1539)) := sd_msk _ (sd_istore dL_law_1537 (by decide) rfl)
theorem r12_1539 : Sd gd_mt M12 1539 (i_ald 2 1540) := sd_aload_n dL_law_1539 rfl rfl
def cl12_18 : List (Nat × gd_I) := [(1473, i_ifne 1487 1476), (1476, i_ald 3 1477), (1477, i_psh (.int 0) 1478), (1478, i_aldJ 1479), (1479, i_lld 6 1481), (1481, i_lcmp 1482), (1482, i_ifeq 1487 1485), (1485, i_psh (.int 0) 1486), (1486, i_zret), (1487, i_msk [true, true, true, true, true, false, false, false] (i_goto 2328)), (1490, i_ald 1 1491), (1491, i_ald 0 1492), (1492, i_ild 4 1494), (1494, i_psh (.int 1) 1495), (1495, i_iadd 1496), (1496, i_aldF 41 1497), (1497, i_ald 0 1498), (1498, i_ild 4 1500), (1500, i_psh (.int 2) 1501), (1501, i_iadd 1502), (1502, i_aldF 41 1503), (1503, i_ald 0 1504), (1504, i_ild 4 1506), (1506, i_psh (.int 3) 1507), (1507, i_iadd 1508), (1508, i_aldF 41 1509), (1509, i_ald 3 1510), (1510, i_cS 30 5 1513), (1513, i_msk [true, true, true, true, true, false, false, false] (i_ist 5 1515)), (1515, i_ald 2 1516), (1516, i_ald 0 1517), (1517, i_ild 4 1519), (1519, i_psh (.int 1) 1520), (1520, i_iadd 1521), (1521, i_aldF 41 1522), (1522, i_ald 0 1523), (1523, i_ild 4 1525), (1525, i_psh (.int 2) 1526), (1526, i_iadd 1527), (1527, i_aldF 41 1528), (1528, i_ald 0 1529), (1529, i_ild 4 1531), (1531, i_psh (.int 3) 1532), (1532, i_iadd 1533), (1533, i_aldF 41 1534), (1534, i_cV 263 3 8 1537), (1537, i_msk [true, true, true, true, true, true, false, false] (i_ist 6 1539)), (1539, i_ald 2 1540)]
theorem cs12_18 : ∀ q ∈ cl12_18, Sd gd_mt M12 q.1 q.2 := gd_ac r12_1473 (gd_ac r12_1476 (gd_ac r12_1477 (gd_ac r12_1478 (gd_ac r12_1479 (gd_ac r12_1481 (gd_ac r12_1482 (gd_ac r12_1485 (gd_ac r12_1486 (gd_ac r12_1487 (gd_ac r12_1490 (gd_ac r12_1491 (gd_ac r12_1492 (gd_ac r12_1494 (gd_ac r12_1495 (gd_ac r12_1496 (gd_ac r12_1497 (gd_ac r12_1498 (gd_ac r12_1500 (gd_ac r12_1501 (gd_ac r12_1502 (gd_ac r12_1503 (gd_ac r12_1504 (gd_ac r12_1506 (gd_ac r12_1507 (gd_ac r12_1508 (gd_ac r12_1509 (gd_ac r12_1510 (gd_ac r12_1513 (gd_ac r12_1515 (gd_ac r12_1516 (gd_ac r12_1517 (gd_ac r12_1519 (gd_ac r12_1520 (gd_ac r12_1521 (gd_ac r12_1522 (gd_ac r12_1523 (gd_ac r12_1525 (gd_ac r12_1526 (gd_ac r12_1527 (gd_ac r12_1528 (gd_ac r12_1529 (gd_ac r12_1531 (gd_ac r12_1532 (gd_ac r12_1533 (gd_ac r12_1534 (gd_ac r12_1537 (gd_ac r12_1539 (gd_an))))))))))))))))))))))))))))))))))))))))))))))))
theorem r12_1540 : Sd gd_mt M12 1540 (i_cV 175 0 8 1543) := sd_cV2 e175 cal175 q1432 q1433 (rfl : gd_cl 8 = some _) q1434 dL_law_1540 rfl
theorem r12_1543 : Sd gd_mt M12 1543 (i_msk [true, true, true, true, true, true, true, false] (i_ild 5 1545)) := sd_msk _ (sd_iload dL_law_1543 rfl)
theorem r12_1545 : Sd gd_mt M12 1545 (i_iceq 1550 1548) := sd_iceq dL_law_1545 (by decide) rfl
theorem r12_1548 : Sd gd_mt M12 1548 (i_psh (.int 0) 1549) := sd_iconst dL_law_1548 (by decide) rfl
theorem r12_1549 : Sd gd_mt M12 1549 (i_zret) := sd_zret rfl dL_law_1549
theorem r12_1550 : Sd gd_mt M12 1550 (i_ild 5 1552) := sd_iload dL_law_1550 rfl
theorem r12_1552 : Sd gd_mt M12 1552 (i_ifne 1567 1555) := sd_ifne dL_law_1552 (by decide) rfl
theorem r12_1555 : Sd gd_mt M12 1555 (i_ald 3 1556) := sd_aload_n dL_law_1555 rfl rfl
theorem r12_1556 : Sd gd_mt M12 1556 (i_psh (.int 0) 1557) := sd_iconst dL_law_1556 (by decide) rfl
theorem r12_1557 : Sd gd_mt M12 1557 (i_aldJ 1558) := sd_lald dL_law_1557 rfl
theorem r12_1558 : Sd gd_mt M12 1558 (i_ild 6 1560) := sd_iload dL_law_1558 rfl
theorem r12_1560 : Sd gd_mt M12 1560 (i_i2l 1561) := sd_i2l dL_law_1560 rfl
theorem r12_1561 : Sd gd_mt M12 1561 (i_lcmp 1562) := sd_lcmp dL_law_1561 rfl
theorem r12_1562 : Sd gd_mt M12 1562 (i_ifeq 1567 1565) := sd_ifeq dL_law_1562 (by decide) rfl
theorem r12_1565 : Sd gd_mt M12 1565 (i_psh (.int 0) 1566) := sd_iconst dL_law_1565 (by decide) rfl
theorem r12_1566 : Sd gd_mt M12 1566 (i_zret) := sd_zret rfl dL_law_1566
theorem r12_1567 : Sd gd_mt M12 1567 (i_msk [true, true, true, true, true, false, false, false] (i_goto 2328)) := sd_msk _ (sd_goto dL_law_1567 (by decide))
theorem r12_1570 : Sd gd_mt M12 1570 (i_ald 1 1571) := sd_aload_n dL_law_1570 rfl rfl
theorem r12_1571 : Sd gd_mt M12 1571 (i_ald 0 1572) := sd_aload_n dL_law_1571 rfl rfl
theorem r12_1572 : Sd gd_mt M12 1572 (i_ild 4 1574) := sd_iload dL_law_1572 rfl
theorem r12_1574 : Sd gd_mt M12 1574 (i_psh (.int 1) 1575) := sd_iconst dL_law_1574 (by decide) rfl
theorem r12_1575 : Sd gd_mt M12 1575 (i_iadd 1576) := sd_iadd dL_law_1575 rfl
theorem r12_1576 : Sd gd_mt M12 1576 (i_aldF 41 1577) := sd_ialdF dL_law_1576 rfl
theorem r12_1577 : Sd gd_mt M12 1577 (i_ald 0 1578) := sd_aload_n dL_law_1577 rfl rfl
theorem r12_1578 : Sd gd_mt M12 1578 (i_ild 4 1580) := sd_iload dL_law_1578 rfl
theorem r12_1580 : Sd gd_mt M12 1580 (i_psh (.int 2) 1581) := sd_iconst dL_law_1580 (by decide) rfl
theorem r12_1581 : Sd gd_mt M12 1581 (i_iadd 1582) := sd_iadd dL_law_1581 rfl
theorem r12_1582 : Sd gd_mt M12 1582 (i_aldF 41 1583) := sd_ialdF dL_law_1582 rfl
theorem r12_1583 : Sd gd_mt M12 1583 (i_ald 0 1584) := sd_aload_n dL_law_1583 rfl rfl
theorem r12_1584 : Sd gd_mt M12 1584 (i_ild 4 1586) := sd_iload dL_law_1584 rfl
theorem r12_1586 : Sd gd_mt M12 1586 (i_psh (.int 3) 1587) := sd_iconst dL_law_1586 (by decide) rfl
theorem r12_1587 : Sd gd_mt M12 1587 (i_iadd 1588) := sd_iadd dL_law_1587 rfl
theorem r12_1588 : Sd gd_mt M12 1588 (i_aldF 41 1589) := sd_ialdF dL_law_1588 rfl
theorem r12_1589 : Sd gd_mt M12 1589 (i_ald 3 1590) := sd_aload_n dL_law_1589 rfl rfl
theorem r12_1590 : Sd gd_mt M12 1590 (i_cS 31 5 1593) := sd_cS2 e31 cal31 q1337 q1338 dL_law_1590 rfl
theorem r12_1593 : Sd gd_mt M12 1593 (i_msk [true, true, true, true, true, false, false, false] (i_ist 5 1595)) := sd_msk _ (sd_istore dL_law_1593 (by decide) rfl)
theorem r12_1595 : Sd gd_mt M12 1595 (i_ald 2 1596) := sd_aload_n dL_law_1595 rfl rfl
theorem r12_1596 : Sd gd_mt M12 1596 (i_ald 0 1597) := sd_aload_n dL_law_1596 rfl rfl
theorem r12_1597 : Sd gd_mt M12 1597 (i_ild 4 1599) := sd_iload dL_law_1597 rfl
theorem r12_1599 : Sd gd_mt M12 1599 (i_psh (.int 1) 1600) := sd_iconst dL_law_1599 (by decide) rfl
theorem r12_1600 : Sd gd_mt M12 1600 (i_iadd 1601) := sd_iadd dL_law_1600 rfl
theorem r12_1601 : Sd gd_mt M12 1601 (i_aldF 41 1602) := sd_ialdF dL_law_1601 rfl
theorem r12_1602 : Sd gd_mt M12 1602 (i_ald 0 1603) := sd_aload_n dL_law_1602 rfl rfl
theorem r12_1603 : Sd gd_mt M12 1603 (i_ild 4 1605) := sd_iload dL_law_1603 rfl
theorem r12_1605 : Sd gd_mt M12 1605 (i_psh (.int 2) 1606) := sd_iconst dL_law_1605 (by decide) rfl
theorem r12_1606 : Sd gd_mt M12 1606 (i_iadd 1607) := sd_iadd dL_law_1606 rfl
theorem r12_1607 : Sd gd_mt M12 1607 (i_aldF 41 1608) := sd_ialdF dL_law_1607 rfl
theorem r12_1608 : Sd gd_mt M12 1608 (i_ald 0 1609) := sd_aload_n dL_law_1608 rfl rfl
def cl12_19 : List (Nat × gd_I) := [(1540, i_cV 175 0 8 1543), (1543, i_msk [true, true, true, true, true, true, true, false] (i_ild 5 1545)), (1545, i_iceq 1550 1548), (1548, i_psh (.int 0) 1549), (1549, i_zret), (1550, i_ild 5 1552), (1552, i_ifne 1567 1555), (1555, i_ald 3 1556), (1556, i_psh (.int 0) 1557), (1557, i_aldJ 1558), (1558, i_ild 6 1560), (1560, i_i2l 1561), (1561, i_lcmp 1562), (1562, i_ifeq 1567 1565), (1565, i_psh (.int 0) 1566), (1566, i_zret), (1567, i_msk [true, true, true, true, true, false, false, false] (i_goto 2328)), (1570, i_ald 1 1571), (1571, i_ald 0 1572), (1572, i_ild 4 1574), (1574, i_psh (.int 1) 1575), (1575, i_iadd 1576), (1576, i_aldF 41 1577), (1577, i_ald 0 1578), (1578, i_ild 4 1580), (1580, i_psh (.int 2) 1581), (1581, i_iadd 1582), (1582, i_aldF 41 1583), (1583, i_ald 0 1584), (1584, i_ild 4 1586), (1586, i_psh (.int 3) 1587), (1587, i_iadd 1588), (1588, i_aldF 41 1589), (1589, i_ald 3 1590), (1590, i_cS 31 5 1593), (1593, i_msk [true, true, true, true, true, false, false, false] (i_ist 5 1595)), (1595, i_ald 2 1596), (1596, i_ald 0 1597), (1597, i_ild 4 1599), (1599, i_psh (.int 1) 1600), (1600, i_iadd 1601), (1601, i_aldF 41 1602), (1602, i_ald 0 1603), (1603, i_ild 4 1605), (1605, i_psh (.int 2) 1606), (1606, i_iadd 1607), (1607, i_aldF 41 1608), (1608, i_ald 0 1609)]
theorem cs12_19 : ∀ q ∈ cl12_19, Sd gd_mt M12 q.1 q.2 := gd_ac r12_1540 (gd_ac r12_1543 (gd_ac r12_1545 (gd_ac r12_1548 (gd_ac r12_1549 (gd_ac r12_1550 (gd_ac r12_1552 (gd_ac r12_1555 (gd_ac r12_1556 (gd_ac r12_1557 (gd_ac r12_1558 (gd_ac r12_1560 (gd_ac r12_1561 (gd_ac r12_1562 (gd_ac r12_1565 (gd_ac r12_1566 (gd_ac r12_1567 (gd_ac r12_1570 (gd_ac r12_1571 (gd_ac r12_1572 (gd_ac r12_1574 (gd_ac r12_1575 (gd_ac r12_1576 (gd_ac r12_1577 (gd_ac r12_1578 (gd_ac r12_1580 (gd_ac r12_1581 (gd_ac r12_1582 (gd_ac r12_1583 (gd_ac r12_1584 (gd_ac r12_1586 (gd_ac r12_1587 (gd_ac r12_1588 (gd_ac r12_1589 (gd_ac r12_1590 (gd_ac r12_1593 (gd_ac r12_1595 (gd_ac r12_1596 (gd_ac r12_1597 (gd_ac r12_1599 (gd_ac r12_1600 (gd_ac r12_1601 (gd_ac r12_1602 (gd_ac r12_1603 (gd_ac r12_1605 (gd_ac r12_1606 (gd_ac r12_1607 (gd_ac r12_1608 (gd_an))))))))))))))))))))))))))))))))))))))))))))))))
theorem r12_1609 : Sd gd_mt M12 1609 (i_ild 4 1611) := sd_iload dL_law_1609 rfl
theorem r12_1611 : Sd gd_mt M12 1611 (i_psh (.int 3) 1612) := sd_iconst dL_law_1611 (by decide) rfl
theorem r12_1612 : Sd gd_mt M12 1612 (i_iadd 1613) := sd_iadd dL_law_1612 rfl
theorem r12_1613 : Sd gd_mt M12 1613 (i_aldF 41 1614) := sd_ialdF dL_law_1613 rfl
theorem r12_1614 : Sd gd_mt M12 1614 (i_cV 265 3 8 1617) := sd_cV2 e265 cal265 q1977 q1978 (rfl : gd_cl 8 = some _) q1979 dL_law_1614 rfl
theorem r12_1617 : Sd gd_mt M12 1617 (i_msk [true, true, true, true, true, true, false, false] (i_ist 6 1619)) := sd_msk _ (sd_istore dL_law_1617 (by decide) rfl)
theorem r12_1619 : Sd gd_mt M12 1619 (i_ald 2 1620) := sd_aload_n dL_law_1619 rfl rfl
theorem r12_1620 : Sd gd_mt M12 1620 (i_cV 175 0 8 1623) := sd_cV2 e175 cal175 q1432 q1433 (rfl : gd_cl 8 = some _) q1434 dL_law_1620 rfl
theorem r12_1623 : Sd gd_mt M12 1623 (i_msk [true, true, true, true, true, true, true, false] (i_ild 5 1625)) := sd_msk _ (sd_iload dL_law_1623 rfl)
theorem r12_1625 : Sd gd_mt M12 1625 (i_iceq 1630 1628) := sd_iceq dL_law_1625 (by decide) rfl
theorem r12_1628 : Sd gd_mt M12 1628 (i_psh (.int 0) 1629) := sd_iconst dL_law_1628 (by decide) rfl
theorem r12_1629 : Sd gd_mt M12 1629 (i_zret) := sd_zret rfl dL_law_1629
theorem r12_1630 : Sd gd_mt M12 1630 (i_ild 5 1632) := sd_iload dL_law_1630 rfl
theorem r12_1632 : Sd gd_mt M12 1632 (i_ifne 1647 1635) := sd_ifne dL_law_1632 (by decide) rfl
theorem r12_1635 : Sd gd_mt M12 1635 (i_ald 3 1636) := sd_aload_n dL_law_1635 rfl rfl
theorem r12_1636 : Sd gd_mt M12 1636 (i_psh (.int 0) 1637) := sd_iconst dL_law_1636 (by decide) rfl
theorem r12_1637 : Sd gd_mt M12 1637 (i_aldJ 1638) := sd_lald dL_law_1637 rfl
theorem r12_1638 : Sd gd_mt M12 1638 (i_ild 6 1640) := sd_iload dL_law_1638 rfl
theorem r12_1640 : Sd gd_mt M12 1640 (i_i2l 1641) := sd_i2l dL_law_1640 rfl
theorem r12_1641 : Sd gd_mt M12 1641 (i_lcmp 1642) := sd_lcmp dL_law_1641 rfl
theorem r12_1642 : Sd gd_mt M12 1642 (i_ifeq 1647 1645) := sd_ifeq dL_law_1642 (by decide) rfl
theorem r12_1645 : Sd gd_mt M12 1645 (i_psh (.int 0) 1646) := sd_iconst dL_law_1645 (by decide) rfl
theorem r12_1646 : Sd gd_mt M12 1646 (i_zret) := sd_zret rfl dL_law_1646
theorem r12_1647 : Sd gd_mt M12 1647 (i_msk [true, true, true, true, true, false, false, false] (i_goto 2328)) := sd_msk _ (sd_goto dL_law_1647 (by decide))
theorem r12_1650 : Sd gd_mt M12 1650 (i_ald 1 1651) := sd_aload_n dL_law_1650 rfl rfl
theorem r12_1651 : Sd gd_mt M12 1651 (i_ald 0 1652) := sd_aload_n dL_law_1651 rfl rfl
theorem r12_1652 : Sd gd_mt M12 1652 (i_ild 4 1654) := sd_iload dL_law_1652 rfl
theorem r12_1654 : Sd gd_mt M12 1654 (i_psh (.int 1) 1655) := sd_iconst dL_law_1654 (by decide) rfl
theorem r12_1655 : Sd gd_mt M12 1655 (i_iadd 1656) := sd_iadd dL_law_1655 rfl
theorem r12_1656 : Sd gd_mt M12 1656 (i_aldF 41 1657) := sd_ialdF dL_law_1656 rfl
theorem r12_1657 : Sd gd_mt M12 1657 (i_ald 3 1658) := sd_aload_n dL_law_1657 rfl rfl
theorem r12_1658 : Sd gd_mt M12 1658 (i_cS 32 3 1661) := sd_cS2 e32 cal32 q1348 q1349 dL_law_1658 rfl
theorem r12_1661 : Sd gd_mt M12 1661 (i_msk [true, true, true, true, true, false, false, false] (i_ist 5 1663)) := sd_msk _ (sd_istore dL_law_1661 (by decide) rfl)
theorem r12_1663 : Sd gd_mt M12 1663 (i_ald 2 1664) := sd_aload_n dL_law_1663 rfl rfl
theorem r12_1664 : Sd gd_mt M12 1664 (i_ald 0 1665) := sd_aload_n dL_law_1664 rfl rfl
theorem r12_1665 : Sd gd_mt M12 1665 (i_ild 4 1667) := sd_iload dL_law_1665 rfl
theorem r12_1667 : Sd gd_mt M12 1667 (i_psh (.int 1) 1668) := sd_iconst dL_law_1667 (by decide) rfl
theorem r12_1668 : Sd gd_mt M12 1668 (i_iadd 1669) := sd_iadd dL_law_1668 rfl
theorem r12_1669 : Sd gd_mt M12 1669 (i_aldF 41 1670) := sd_ialdF dL_law_1669 rfl
theorem r12_1670 : Sd gd_mt M12 1670 (i_cV 267 1 8 1673) := sd_cV2 e267 cal267 q1985 q1986 (rfl : gd_cl 8 = some _) q1987 dL_law_1670 rfl
theorem r12_1673 : Sd gd_mt M12 1673 (i_msk [true, true, true, true, true, true, false, false] (i_ist 6 1675)) := sd_msk _ (sd_istore dL_law_1673 (by decide) rfl)
theorem r12_1675 : Sd gd_mt M12 1675 (i_ald 2 1676) := sd_aload_n dL_law_1675 rfl rfl
theorem r12_1676 : Sd gd_mt M12 1676 (i_cV 175 0 8 1679) := sd_cV2 e175 cal175 q1432 q1433 (rfl : gd_cl 8 = some _) q1434 dL_law_1676 rfl
theorem r12_1679 : Sd gd_mt M12 1679 (i_msk [true, true, true, true, true, true, true, false] (i_ild 5 1681)) := sd_msk _ (sd_iload dL_law_1679 rfl)
theorem r12_1681 : Sd gd_mt M12 1681 (i_iceq 1686 1684) := sd_iceq dL_law_1681 (by decide) rfl
theorem r12_1684 : Sd gd_mt M12 1684 (i_psh (.int 0) 1685) := sd_iconst dL_law_1684 (by decide) rfl
theorem r12_1685 : Sd gd_mt M12 1685 (i_zret) := sd_zret rfl dL_law_1685
theorem r12_1686 : Sd gd_mt M12 1686 (i_ild 5 1688) := sd_iload dL_law_1686 rfl
def cl12_20 : List (Nat × gd_I) := [(1609, i_ild 4 1611), (1611, i_psh (.int 3) 1612), (1612, i_iadd 1613), (1613, i_aldF 41 1614), (1614, i_cV 265 3 8 1617), (1617, i_msk [true, true, true, true, true, true, false, false] (i_ist 6 1619)), (1619, i_ald 2 1620), (1620, i_cV 175 0 8 1623), (1623, i_msk [true, true, true, true, true, true, true, false] (i_ild 5 1625)), (1625, i_iceq 1630 1628), (1628, i_psh (.int 0) 1629), (1629, i_zret), (1630, i_ild 5 1632), (1632, i_ifne 1647 1635), (1635, i_ald 3 1636), (1636, i_psh (.int 0) 1637), (1637, i_aldJ 1638), (1638, i_ild 6 1640), (1640, i_i2l 1641), (1641, i_lcmp 1642), (1642, i_ifeq 1647 1645), (1645, i_psh (.int 0) 1646), (1646, i_zret), (1647, i_msk [true, true, true, true, true, false, false, false] (i_goto 2328)), (1650, i_ald 1 1651), (1651, i_ald 0 1652), (1652, i_ild 4 1654), (1654, i_psh (.int 1) 1655), (1655, i_iadd 1656), (1656, i_aldF 41 1657), (1657, i_ald 3 1658), (1658, i_cS 32 3 1661), (1661, i_msk [true, true, true, true, true, false, false, false] (i_ist 5 1663)), (1663, i_ald 2 1664), (1664, i_ald 0 1665), (1665, i_ild 4 1667), (1667, i_psh (.int 1) 1668), (1668, i_iadd 1669), (1669, i_aldF 41 1670), (1670, i_cV 267 1 8 1673), (1673, i_msk [true, true, true, true, true, true, false, false] (i_ist 6 1675)), (1675, i_ald 2 1676), (1676, i_cV 175 0 8 1679), (1679, i_msk [true, true, true, true, true, true, true, false] (i_ild 5 1681)), (1681, i_iceq 1686 1684), (1684, i_psh (.int 0) 1685), (1685, i_zret), (1686, i_ild 5 1688)]
theorem cs12_20 : ∀ q ∈ cl12_20, Sd gd_mt M12 q.1 q.2 := gd_ac r12_1609 (gd_ac r12_1611 (gd_ac r12_1612 (gd_ac r12_1613 (gd_ac r12_1614 (gd_ac r12_1617 (gd_ac r12_1619 (gd_ac r12_1620 (gd_ac r12_1623 (gd_ac r12_1625 (gd_ac r12_1628 (gd_ac r12_1629 (gd_ac r12_1630 (gd_ac r12_1632 (gd_ac r12_1635 (gd_ac r12_1636 (gd_ac r12_1637 (gd_ac r12_1638 (gd_ac r12_1640 (gd_ac r12_1641 (gd_ac r12_1642 (gd_ac r12_1645 (gd_ac r12_1646 (gd_ac r12_1647 (gd_ac r12_1650 (gd_ac r12_1651 (gd_ac r12_1652 (gd_ac r12_1654 (gd_ac r12_1655 (gd_ac r12_1656 (gd_ac r12_1657 (gd_ac r12_1658 (gd_ac r12_1661 (gd_ac r12_1663 (gd_ac r12_1664 (gd_ac r12_1665 (gd_ac r12_1667 (gd_ac r12_1668 (gd_ac r12_1669 (gd_ac r12_1670 (gd_ac r12_1673 (gd_ac r12_1675 (gd_ac r12_1676 (gd_ac r12_1679 (gd_ac r12_1681 (gd_ac r12_1684 (gd_ac r12_1685 (gd_ac r12_1686 (gd_an))))))))))))))))))))))))))))))))))))))))))))))))
theorem r12_1688 : Sd gd_mt M12 1688 (i_ifne 1703 1691) := sd_ifne dL_law_1688 (by decide) rfl
theorem r12_1691 : Sd gd_mt M12 1691 (i_ald 3 1692) := sd_aload_n dL_law_1691 rfl rfl
theorem r12_1692 : Sd gd_mt M12 1692 (i_psh (.int 0) 1693) := sd_iconst dL_law_1692 (by decide) rfl
theorem r12_1693 : Sd gd_mt M12 1693 (i_aldJ 1694) := sd_lald dL_law_1693 rfl
theorem r12_1694 : Sd gd_mt M12 1694 (i_ild 6 1696) := sd_iload dL_law_1694 rfl
theorem r12_1696 : Sd gd_mt M12 1696 (i_i2l 1697) := sd_i2l dL_law_1696 rfl
theorem r12_1697 : Sd gd_mt M12 1697 (i_lcmp 1698) := sd_lcmp dL_law_1697 rfl
theorem r12_1698 : Sd gd_mt M12 1698 (i_ifeq 1703 1701) := sd_ifeq dL_law_1698 (by decide) rfl
theorem r12_1701 : Sd gd_mt M12 1701 (i_psh (.int 0) 1702) := sd_iconst dL_law_1701 (by decide) rfl
theorem r12_1702 : Sd gd_mt M12 1702 (i_zret) := sd_zret rfl dL_law_1702
theorem r12_1703 : Sd gd_mt M12 1703 (i_msk [true, true, true, true, true, false, false, false] (i_goto 2328)) := sd_msk _ (sd_goto dL_law_1703 (by decide))
theorem r12_1706 : Sd gd_mt M12 1706 (i_ald 1 1707) := sd_aload_n dL_law_1706 rfl rfl
theorem r12_1707 : Sd gd_mt M12 1707 (i_ald 0 1708) := sd_aload_n dL_law_1707 rfl rfl
theorem r12_1708 : Sd gd_mt M12 1708 (i_ild 4 1710) := sd_iload dL_law_1708 rfl
theorem r12_1710 : Sd gd_mt M12 1710 (i_psh (.int 1) 1711) := sd_iconst dL_law_1710 (by decide) rfl
theorem r12_1711 : Sd gd_mt M12 1711 (i_iadd 1712) := sd_iadd dL_law_1711 rfl
theorem r12_1712 : Sd gd_mt M12 1712 (i_aldF 41 1713) := sd_ialdF dL_law_1712 rfl
theorem r12_1713 : Sd gd_mt M12 1713 (i_ald 3 1714) := sd_aload_n dL_law_1713 rfl rfl
theorem r12_1714 : Sd gd_mt M12 1714 (i_cS 33 3 1717) := sd_cS2 e33 cal33 q1355 q1356 dL_law_1714 rfl
theorem r12_1717 : Sd gd_mt M12 1717 (i_msk [true, true, true, true, true, false, false, false] (i_ist 5 1719)) := sd_msk _ (sd_istore dL_law_1717 (by decide) rfl)
theorem r12_1719 : Sd gd_mt M12 1719 (i_ald 2 1720) := sd_aload_n dL_law_1719 rfl rfl
theorem r12_1720 : Sd gd_mt M12 1720 (i_ald 0 1721) := sd_aload_n dL_law_1720 rfl rfl
theorem r12_1721 : Sd gd_mt M12 1721 (i_ild 4 1723) := sd_iload dL_law_1721 rfl
theorem r12_1723 : Sd gd_mt M12 1723 (i_psh (.int 1) 1724) := sd_iconst dL_law_1723 (by decide) rfl
theorem r12_1724 : Sd gd_mt M12 1724 (i_iadd 1725) := sd_iadd dL_law_1724 rfl
theorem r12_1725 : Sd gd_mt M12 1725 (i_aldF 41 1726) := sd_ialdF dL_law_1725 rfl
theorem r12_1726 : Sd gd_mt M12 1726 (i_cV 268 1 8 1729) := sd_cV2 e268 cal268 q1989 q1990 (rfl : gd_cl 8 = some _) q1991 dL_law_1726 rfl
theorem r12_1729 : Sd gd_mt M12 1729 (i_msk [true, true, true, true, true, true, false, false] (i_ist 6 1731)) := sd_msk _ (sd_istore dL_law_1729 (by decide) rfl)
theorem r12_1731 : Sd gd_mt M12 1731 (i_ald 2 1732) := sd_aload_n dL_law_1731 rfl rfl
theorem r12_1732 : Sd gd_mt M12 1732 (i_cV 175 0 8 1735) := sd_cV2 e175 cal175 q1432 q1433 (rfl : gd_cl 8 = some _) q1434 dL_law_1732 rfl
theorem r12_1735 : Sd gd_mt M12 1735 (i_msk [true, true, true, true, true, true, true, false] (i_ild 5 1737)) := sd_msk _ (sd_iload dL_law_1735 rfl)
theorem r12_1737 : Sd gd_mt M12 1737 (i_iceq 1742 1740) := sd_iceq dL_law_1737 (by decide) rfl
theorem r12_1740 : Sd gd_mt M12 1740 (i_psh (.int 0) 1741) := sd_iconst dL_law_1740 (by decide) rfl
theorem r12_1741 : Sd gd_mt M12 1741 (i_zret) := sd_zret rfl dL_law_1741
theorem r12_1742 : Sd gd_mt M12 1742 (i_ild 5 1744) := sd_iload dL_law_1742 rfl
theorem r12_1744 : Sd gd_mt M12 1744 (i_ifne 1759 1747) := sd_ifne dL_law_1744 (by decide) rfl
theorem r12_1747 : Sd gd_mt M12 1747 (i_ald 3 1748) := sd_aload_n dL_law_1747 rfl rfl
theorem r12_1748 : Sd gd_mt M12 1748 (i_psh (.int 0) 1749) := sd_iconst dL_law_1748 (by decide) rfl
theorem r12_1749 : Sd gd_mt M12 1749 (i_aldJ 1750) := sd_lald dL_law_1749 rfl
theorem r12_1750 : Sd gd_mt M12 1750 (i_ild 6 1752) := sd_iload dL_law_1750 rfl
theorem r12_1752 : Sd gd_mt M12 1752 (i_i2l 1753) := sd_i2l dL_law_1752 rfl
theorem r12_1753 : Sd gd_mt M12 1753 (i_lcmp 1754) := sd_lcmp dL_law_1753 rfl
theorem r12_1754 : Sd gd_mt M12 1754 (i_ifeq 1759 1757) := sd_ifeq dL_law_1754 (by decide) rfl
theorem r12_1757 : Sd gd_mt M12 1757 (i_psh (.int 0) 1758) := sd_iconst dL_law_1757 (by decide) rfl
theorem r12_1758 : Sd gd_mt M12 1758 (i_zret) := sd_zret rfl dL_law_1758
theorem r12_1759 : Sd gd_mt M12 1759 (i_msk [true, true, true, true, true, false, false, false] (i_goto 2328)) := sd_msk _ (sd_goto dL_law_1759 (by decide))
theorem r12_1762 : Sd gd_mt M12 1762 (i_ald 1 1763) := sd_aload_n dL_law_1762 rfl rfl
theorem r12_1763 : Sd gd_mt M12 1763 (i_ald 0 1764) := sd_aload_n dL_law_1763 rfl rfl
def cl12_21 : List (Nat × gd_I) := [(1688, i_ifne 1703 1691), (1691, i_ald 3 1692), (1692, i_psh (.int 0) 1693), (1693, i_aldJ 1694), (1694, i_ild 6 1696), (1696, i_i2l 1697), (1697, i_lcmp 1698), (1698, i_ifeq 1703 1701), (1701, i_psh (.int 0) 1702), (1702, i_zret), (1703, i_msk [true, true, true, true, true, false, false, false] (i_goto 2328)), (1706, i_ald 1 1707), (1707, i_ald 0 1708), (1708, i_ild 4 1710), (1710, i_psh (.int 1) 1711), (1711, i_iadd 1712), (1712, i_aldF 41 1713), (1713, i_ald 3 1714), (1714, i_cS 33 3 1717), (1717, i_msk [true, true, true, true, true, false, false, false] (i_ist 5 1719)), (1719, i_ald 2 1720), (1720, i_ald 0 1721), (1721, i_ild 4 1723), (1723, i_psh (.int 1) 1724), (1724, i_iadd 1725), (1725, i_aldF 41 1726), (1726, i_cV 268 1 8 1729), (1729, i_msk [true, true, true, true, true, true, false, false] (i_ist 6 1731)), (1731, i_ald 2 1732), (1732, i_cV 175 0 8 1735), (1735, i_msk [true, true, true, true, true, true, true, false] (i_ild 5 1737)), (1737, i_iceq 1742 1740), (1740, i_psh (.int 0) 1741), (1741, i_zret), (1742, i_ild 5 1744), (1744, i_ifne 1759 1747), (1747, i_ald 3 1748), (1748, i_psh (.int 0) 1749), (1749, i_aldJ 1750), (1750, i_ild 6 1752), (1752, i_i2l 1753), (1753, i_lcmp 1754), (1754, i_ifeq 1759 1757), (1757, i_psh (.int 0) 1758), (1758, i_zret), (1759, i_msk [true, true, true, true, true, false, false, false] (i_goto 2328)), (1762, i_ald 1 1763), (1763, i_ald 0 1764)]
theorem cs12_21 : ∀ q ∈ cl12_21, Sd gd_mt M12 q.1 q.2 := gd_ac r12_1688 (gd_ac r12_1691 (gd_ac r12_1692 (gd_ac r12_1693 (gd_ac r12_1694 (gd_ac r12_1696 (gd_ac r12_1697 (gd_ac r12_1698 (gd_ac r12_1701 (gd_ac r12_1702 (gd_ac r12_1703 (gd_ac r12_1706 (gd_ac r12_1707 (gd_ac r12_1708 (gd_ac r12_1710 (gd_ac r12_1711 (gd_ac r12_1712 (gd_ac r12_1713 (gd_ac r12_1714 (gd_ac r12_1717 (gd_ac r12_1719 (gd_ac r12_1720 (gd_ac r12_1721 (gd_ac r12_1723 (gd_ac r12_1724 (gd_ac r12_1725 (gd_ac r12_1726 (gd_ac r12_1729 (gd_ac r12_1731 (gd_ac r12_1732 (gd_ac r12_1735 (gd_ac r12_1737 (gd_ac r12_1740 (gd_ac r12_1741 (gd_ac r12_1742 (gd_ac r12_1744 (gd_ac r12_1747 (gd_ac r12_1748 (gd_ac r12_1749 (gd_ac r12_1750 (gd_ac r12_1752 (gd_ac r12_1753 (gd_ac r12_1754 (gd_ac r12_1757 (gd_ac r12_1758 (gd_ac r12_1759 (gd_ac r12_1762 (gd_ac r12_1763 (gd_an))))))))))))))))))))))))))))))))))))))))))))))))
theorem r12_1764 : Sd gd_mt M12 1764 (i_ild 4 1766) := sd_iload dL_law_1764 rfl
theorem r12_1766 : Sd gd_mt M12 1766 (i_psh (.int 1) 1767) := sd_iconst dL_law_1766 (by decide) rfl
theorem r12_1767 : Sd gd_mt M12 1767 (i_iadd 1768) := sd_iadd dL_law_1767 rfl
theorem r12_1768 : Sd gd_mt M12 1768 (i_aldF 41 1769) := sd_ialdF dL_law_1768 rfl
theorem r12_1769 : Sd gd_mt M12 1769 (i_ald 3 1770) := sd_aload_n dL_law_1769 rfl rfl
theorem r12_1770 : Sd gd_mt M12 1770 (i_cS 34 3 1773) := sd_cS2 e34 cal34 q1365 q1366 dL_law_1770 rfl
theorem r12_1773 : Sd gd_mt M12 1773 (i_msk [true, true, true, true, true, false, false, false] (i_ist 5 1775)) := sd_msk _ (sd_istore dL_law_1773 (by decide) rfl)
theorem r12_1775 : Sd gd_mt M12 1775 (i_ald 2 1776) := sd_aload_n dL_law_1775 rfl rfl
theorem r12_1776 : Sd gd_mt M12 1776 (i_ald 0 1777) := sd_aload_n dL_law_1776 rfl rfl
theorem r12_1777 : Sd gd_mt M12 1777 (i_ild 4 1779) := sd_iload dL_law_1777 rfl
theorem r12_1779 : Sd gd_mt M12 1779 (i_psh (.int 1) 1780) := sd_iconst dL_law_1779 (by decide) rfl
theorem r12_1780 : Sd gd_mt M12 1780 (i_iadd 1781) := sd_iadd dL_law_1780 rfl
theorem r12_1781 : Sd gd_mt M12 1781 (i_aldF 41 1782) := sd_ialdF dL_law_1781 rfl
theorem r12_1782 : Sd gd_mt M12 1782 (i_cV 269 1 8 1785) := sd_cV2 e269 cal269 q1993 q1994 (rfl : gd_cl 8 = some _) q1995 dL_law_1782 rfl
theorem r12_1785 : Sd gd_mt M12 1785 (i_msk [true, true, true, true, true, true, false, false] (i_ist 6 1787)) := sd_msk _ (sd_istore dL_law_1785 (by decide) rfl)
theorem r12_1787 : Sd gd_mt M12 1787 (i_ald 2 1788) := sd_aload_n dL_law_1787 rfl rfl
theorem r12_1788 : Sd gd_mt M12 1788 (i_cV 175 0 8 1791) := sd_cV2 e175 cal175 q1432 q1433 (rfl : gd_cl 8 = some _) q1434 dL_law_1788 rfl
theorem r12_1791 : Sd gd_mt M12 1791 (i_msk [true, true, true, true, true, true, true, false] (i_ild 5 1793)) := sd_msk _ (sd_iload dL_law_1791 rfl)
theorem r12_1793 : Sd gd_mt M12 1793 (i_iceq 1798 1796) := sd_iceq dL_law_1793 (by decide) rfl
theorem r12_1796 : Sd gd_mt M12 1796 (i_psh (.int 0) 1797) := sd_iconst dL_law_1796 (by decide) rfl
theorem r12_1797 : Sd gd_mt M12 1797 (i_zret) := sd_zret rfl dL_law_1797
theorem r12_1798 : Sd gd_mt M12 1798 (i_ild 5 1800) := sd_iload dL_law_1798 rfl
theorem r12_1800 : Sd gd_mt M12 1800 (i_ifne 1815 1803) := sd_ifne dL_law_1800 (by decide) rfl
theorem r12_1803 : Sd gd_mt M12 1803 (i_ald 3 1804) := sd_aload_n dL_law_1803 rfl rfl
theorem r12_1804 : Sd gd_mt M12 1804 (i_psh (.int 0) 1805) := sd_iconst dL_law_1804 (by decide) rfl
theorem r12_1805 : Sd gd_mt M12 1805 (i_aldJ 1806) := sd_lald dL_law_1805 rfl
theorem r12_1806 : Sd gd_mt M12 1806 (i_ild 6 1808) := sd_iload dL_law_1806 rfl
theorem r12_1808 : Sd gd_mt M12 1808 (i_i2l 1809) := sd_i2l dL_law_1808 rfl
theorem r12_1809 : Sd gd_mt M12 1809 (i_lcmp 1810) := sd_lcmp dL_law_1809 rfl
theorem r12_1810 : Sd gd_mt M12 1810 (i_ifeq 1815 1813) := sd_ifeq dL_law_1810 (by decide) rfl
theorem r12_1813 : Sd gd_mt M12 1813 (i_psh (.int 0) 1814) := sd_iconst dL_law_1813 (by decide) rfl
theorem r12_1814 : Sd gd_mt M12 1814 (i_zret) := sd_zret rfl dL_law_1814
theorem r12_1815 : Sd gd_mt M12 1815 (i_msk [true, true, true, true, true, false, false, false] (i_goto 2328)) := sd_msk _ (sd_goto dL_law_1815 (by decide))
theorem r12_1818 : Sd gd_mt M12 1818 (i_ald 1 1819) := sd_aload_n dL_law_1818 rfl rfl
theorem r12_1819 : Sd gd_mt M12 1819 (i_ald 0 1820) := sd_aload_n dL_law_1819 rfl rfl
theorem r12_1820 : Sd gd_mt M12 1820 (i_ild 4 1822) := sd_iload dL_law_1820 rfl
theorem r12_1822 : Sd gd_mt M12 1822 (i_psh (.int 1) 1823) := sd_iconst dL_law_1822 (by decide) rfl
theorem r12_1823 : Sd gd_mt M12 1823 (i_iadd 1824) := sd_iadd dL_law_1823 rfl
theorem r12_1824 : Sd gd_mt M12 1824 (i_aldF 41 1825) := sd_ialdF dL_law_1824 rfl
theorem r12_1825 : Sd gd_mt M12 1825 (i_ald 3 1826) := sd_aload_n dL_law_1825 rfl rfl
theorem r12_1826 : Sd gd_mt M12 1826 (i_cS 35 3 1829) := sd_cS2 e35 cal35 q1373 q1374 dL_law_1826 rfl
theorem r12_1829 : Sd gd_mt M12 1829 (i_msk [true, true, true, true, true, false, false, false] (i_ist 5 1831)) := sd_msk _ (sd_istore dL_law_1829 (by decide) rfl)
theorem r12_1831 : Sd gd_mt M12 1831 (i_ald 2 1832) := sd_aload_n dL_law_1831 rfl rfl
theorem r12_1832 : Sd gd_mt M12 1832 (i_ald 0 1833) := sd_aload_n dL_law_1832 rfl rfl
theorem r12_1833 : Sd gd_mt M12 1833 (i_ild 4 1835) := sd_iload dL_law_1833 rfl
theorem r12_1835 : Sd gd_mt M12 1835 (i_psh (.int 1) 1836) := sd_iconst dL_law_1835 (by decide) rfl
theorem r12_1836 : Sd gd_mt M12 1836 (i_iadd 1837) := sd_iadd dL_law_1836 rfl
theorem r12_1837 : Sd gd_mt M12 1837 (i_aldF 41 1838) := sd_ialdF dL_law_1837 rfl
def cl12_22 : List (Nat × gd_I) := [(1764, i_ild 4 1766), (1766, i_psh (.int 1) 1767), (1767, i_iadd 1768), (1768, i_aldF 41 1769), (1769, i_ald 3 1770), (1770, i_cS 34 3 1773), (1773, i_msk [true, true, true, true, true, false, false, false] (i_ist 5 1775)), (1775, i_ald 2 1776), (1776, i_ald 0 1777), (1777, i_ild 4 1779), (1779, i_psh (.int 1) 1780), (1780, i_iadd 1781), (1781, i_aldF 41 1782), (1782, i_cV 269 1 8 1785), (1785, i_msk [true, true, true, true, true, true, false, false] (i_ist 6 1787)), (1787, i_ald 2 1788), (1788, i_cV 175 0 8 1791), (1791, i_msk [true, true, true, true, true, true, true, false] (i_ild 5 1793)), (1793, i_iceq 1798 1796), (1796, i_psh (.int 0) 1797), (1797, i_zret), (1798, i_ild 5 1800), (1800, i_ifne 1815 1803), (1803, i_ald 3 1804), (1804, i_psh (.int 0) 1805), (1805, i_aldJ 1806), (1806, i_ild 6 1808), (1808, i_i2l 1809), (1809, i_lcmp 1810), (1810, i_ifeq 1815 1813), (1813, i_psh (.int 0) 1814), (1814, i_zret), (1815, i_msk [true, true, true, true, true, false, false, false] (i_goto 2328)), (1818, i_ald 1 1819), (1819, i_ald 0 1820), (1820, i_ild 4 1822), (1822, i_psh (.int 1) 1823), (1823, i_iadd 1824), (1824, i_aldF 41 1825), (1825, i_ald 3 1826), (1826, i_cS 35 3 1829), (1829, i_msk [true, true, true, true, true, false, false, false] (i_ist 5 1831)), (1831, i_ald 2 1832), (1832, i_ald 0 1833), (1833, i_ild 4 1835), (1835, i_psh (.int 1) 1836), (1836, i_iadd 1837), (1837, i_aldF 41 1838)]
theorem cs12_22 : ∀ q ∈ cl12_22, Sd gd_mt M12 q.1 q.2 := gd_ac r12_1764 (gd_ac r12_1766 (gd_ac r12_1767 (gd_ac r12_1768 (gd_ac r12_1769 (gd_ac r12_1770 (gd_ac r12_1773 (gd_ac r12_1775 (gd_ac r12_1776 (gd_ac r12_1777 (gd_ac r12_1779 (gd_ac r12_1780 (gd_ac r12_1781 (gd_ac r12_1782 (gd_ac r12_1785 (gd_ac r12_1787 (gd_ac r12_1788 (gd_ac r12_1791 (gd_ac r12_1793 (gd_ac r12_1796 (gd_ac r12_1797 (gd_ac r12_1798 (gd_ac r12_1800 (gd_ac r12_1803 (gd_ac r12_1804 (gd_ac r12_1805 (gd_ac r12_1806 (gd_ac r12_1808 (gd_ac r12_1809 (gd_ac r12_1810 (gd_ac r12_1813 (gd_ac r12_1814 (gd_ac r12_1815 (gd_ac r12_1818 (gd_ac r12_1819 (gd_ac r12_1820 (gd_ac r12_1822 (gd_ac r12_1823 (gd_ac r12_1824 (gd_ac r12_1825 (gd_ac r12_1826 (gd_ac r12_1829 (gd_ac r12_1831 (gd_ac r12_1832 (gd_ac r12_1833 (gd_ac r12_1835 (gd_ac r12_1836 (gd_ac r12_1837 (gd_an))))))))))))))))))))))))))))))))))))))))))))))))
theorem r12_1838 : Sd gd_mt M12 1838 (i_cV 270 1 8 1841) := sd_cV2 e270 cal270 q1997 q1998 (rfl : gd_cl 8 = some _) q1999 dL_law_1838 rfl
theorem r12_1841 : Sd gd_mt M12 1841 (i_msk [true, true, true, true, true, true, false, false] (i_ist 6 1843)) := sd_msk _ (sd_istore dL_law_1841 (by decide) rfl)
theorem r12_1843 : Sd gd_mt M12 1843 (i_ald 2 1844) := sd_aload_n dL_law_1843 rfl rfl
theorem r12_1844 : Sd gd_mt M12 1844 (i_cV 175 0 8 1847) := sd_cV2 e175 cal175 q1432 q1433 (rfl : gd_cl 8 = some _) q1434 dL_law_1844 rfl
theorem r12_1847 : Sd gd_mt M12 1847 (i_msk [true, true, true, true, true, true, true, false] (i_ild 5 1849)) := sd_msk _ (sd_iload dL_law_1847 rfl)
theorem r12_1849 : Sd gd_mt M12 1849 (i_iceq 1854 1852) := sd_iceq dL_law_1849 (by decide) rfl
theorem r12_1852 : Sd gd_mt M12 1852 (i_psh (.int 0) 1853) := sd_iconst dL_law_1852 (by decide) rfl
theorem r12_1853 : Sd gd_mt M12 1853 (i_zret) := sd_zret rfl dL_law_1853
theorem r12_1854 : Sd gd_mt M12 1854 (i_ild 5 1856) := sd_iload dL_law_1854 rfl
theorem r12_1856 : Sd gd_mt M12 1856 (i_ifne 1871 1859) := sd_ifne dL_law_1856 (by decide) rfl
theorem r12_1859 : Sd gd_mt M12 1859 (i_ald 3 1860) := sd_aload_n dL_law_1859 rfl rfl
theorem r12_1860 : Sd gd_mt M12 1860 (i_psh (.int 0) 1861) := sd_iconst dL_law_1860 (by decide) rfl
theorem r12_1861 : Sd gd_mt M12 1861 (i_aldJ 1862) := sd_lald dL_law_1861 rfl
theorem r12_1862 : Sd gd_mt M12 1862 (i_ild 6 1864) := sd_iload dL_law_1862 rfl
theorem r12_1864 : Sd gd_mt M12 1864 (i_i2l 1865) := sd_i2l dL_law_1864 rfl
theorem r12_1865 : Sd gd_mt M12 1865 (i_lcmp 1866) := sd_lcmp dL_law_1865 rfl
theorem r12_1866 : Sd gd_mt M12 1866 (i_ifeq 1871 1869) := sd_ifeq dL_law_1866 (by decide) rfl
theorem r12_1869 : Sd gd_mt M12 1869 (i_psh (.int 0) 1870) := sd_iconst dL_law_1869 (by decide) rfl
theorem r12_1870 : Sd gd_mt M12 1870 (i_zret) := sd_zret rfl dL_law_1870
theorem r12_1871 : Sd gd_mt M12 1871 (i_msk [true, true, true, true, true, false, false, false] (i_goto 2328)) := sd_msk _ (sd_goto dL_law_1871 (by decide))
theorem r12_1874 : Sd gd_mt M12 1874 (i_ald 1 1875) := sd_aload_n dL_law_1874 rfl rfl
theorem r12_1875 : Sd gd_mt M12 1875 (i_ald 0 1876) := sd_aload_n dL_law_1875 rfl rfl
theorem r12_1876 : Sd gd_mt M12 1876 (i_ild 4 1878) := sd_iload dL_law_1876 rfl
theorem r12_1878 : Sd gd_mt M12 1878 (i_psh (.int 1) 1879) := sd_iconst dL_law_1878 (by decide) rfl
theorem r12_1879 : Sd gd_mt M12 1879 (i_iadd 1880) := sd_iadd dL_law_1879 rfl
theorem r12_1880 : Sd gd_mt M12 1880 (i_aldF 41 1881) := sd_ialdF dL_law_1880 rfl
theorem r12_1881 : Sd gd_mt M12 1881 (i_ald 3 1882) := sd_aload_n dL_law_1881 rfl rfl
theorem r12_1882 : Sd gd_mt M12 1882 (i_cS 36 3 1885) := sd_cS2 e36 cal36 q1381 q1382 dL_law_1882 rfl
theorem r12_1885 : Sd gd_mt M12 1885 (i_msk [true, true, true, true, true, false, false, false] (i_ist 5 1887)) := sd_msk _ (sd_istore dL_law_1885 (by decide) rfl)
theorem r12_1887 : Sd gd_mt M12 1887 (i_ald 2 1888) := sd_aload_n dL_law_1887 rfl rfl
theorem r12_1888 : Sd gd_mt M12 1888 (i_ald 0 1889) := sd_aload_n dL_law_1888 rfl rfl
theorem r12_1889 : Sd gd_mt M12 1889 (i_ild 4 1891) := sd_iload dL_law_1889 rfl
theorem r12_1891 : Sd gd_mt M12 1891 (i_psh (.int 1) 1892) := sd_iconst dL_law_1891 (by decide) rfl
theorem r12_1892 : Sd gd_mt M12 1892 (i_iadd 1893) := sd_iadd dL_law_1892 rfl
theorem r12_1893 : Sd gd_mt M12 1893 (i_aldF 41 1894) := sd_ialdF dL_law_1893 rfl
theorem r12_1894 : Sd gd_mt M12 1894 (i_cV 245 1 8 1897) := sd_cV2 e245 cal245 q1900 q1901 (rfl : gd_cl 8 = some _) q1902 dL_law_1894 rfl
theorem r12_1897 : Sd gd_mt M12 1897 (i_msk [true, true, true, true, true, true, false, false] (i_ist 6 1899)) := sd_msk _ (sd_istore dL_law_1897 (by decide) rfl)
theorem r12_1899 : Sd gd_mt M12 1899 (i_ald 2 1900) := sd_aload_n dL_law_1899 rfl rfl
theorem r12_1900 : Sd gd_mt M12 1900 (i_cV 175 0 8 1903) := sd_cV2 e175 cal175 q1432 q1433 (rfl : gd_cl 8 = some _) q1434 dL_law_1900 rfl
theorem r12_1903 : Sd gd_mt M12 1903 (i_msk [true, true, true, true, true, true, true, false] (i_ild 5 1905)) := sd_msk _ (sd_iload dL_law_1903 rfl)
theorem r12_1905 : Sd gd_mt M12 1905 (i_iceq 1910 1908) := sd_iceq dL_law_1905 (by decide) rfl
theorem r12_1908 : Sd gd_mt M12 1908 (i_psh (.int 0) 1909) := sd_iconst dL_law_1908 (by decide) rfl
theorem r12_1909 : Sd gd_mt M12 1909 (i_zret) := sd_zret rfl dL_law_1909
theorem r12_1910 : Sd gd_mt M12 1910 (i_ild 5 1912) := sd_iload dL_law_1910 rfl
theorem r12_1912 : Sd gd_mt M12 1912 (i_ifne 1927 1915) := sd_ifne dL_law_1912 (by decide) rfl
theorem r12_1915 : Sd gd_mt M12 1915 (i_ald 3 1916) := sd_aload_n dL_law_1915 rfl rfl
theorem r12_1916 : Sd gd_mt M12 1916 (i_psh (.int 0) 1917) := sd_iconst dL_law_1916 (by decide) rfl
theorem r12_1917 : Sd gd_mt M12 1917 (i_aldJ 1918) := sd_lald dL_law_1917 rfl
def cl12_23 : List (Nat × gd_I) := [(1838, i_cV 270 1 8 1841), (1841, i_msk [true, true, true, true, true, true, false, false] (i_ist 6 1843)), (1843, i_ald 2 1844), (1844, i_cV 175 0 8 1847), (1847, i_msk [true, true, true, true, true, true, true, false] (i_ild 5 1849)), (1849, i_iceq 1854 1852), (1852, i_psh (.int 0) 1853), (1853, i_zret), (1854, i_ild 5 1856), (1856, i_ifne 1871 1859), (1859, i_ald 3 1860), (1860, i_psh (.int 0) 1861), (1861, i_aldJ 1862), (1862, i_ild 6 1864), (1864, i_i2l 1865), (1865, i_lcmp 1866), (1866, i_ifeq 1871 1869), (1869, i_psh (.int 0) 1870), (1870, i_zret), (1871, i_msk [true, true, true, true, true, false, false, false] (i_goto 2328)), (1874, i_ald 1 1875), (1875, i_ald 0 1876), (1876, i_ild 4 1878), (1878, i_psh (.int 1) 1879), (1879, i_iadd 1880), (1880, i_aldF 41 1881), (1881, i_ald 3 1882), (1882, i_cS 36 3 1885), (1885, i_msk [true, true, true, true, true, false, false, false] (i_ist 5 1887)), (1887, i_ald 2 1888), (1888, i_ald 0 1889), (1889, i_ild 4 1891), (1891, i_psh (.int 1) 1892), (1892, i_iadd 1893), (1893, i_aldF 41 1894), (1894, i_cV 245 1 8 1897), (1897, i_msk [true, true, true, true, true, true, false, false] (i_ist 6 1899)), (1899, i_ald 2 1900), (1900, i_cV 175 0 8 1903), (1903, i_msk [true, true, true, true, true, true, true, false] (i_ild 5 1905)), (1905, i_iceq 1910 1908), (1908, i_psh (.int 0) 1909), (1909, i_zret), (1910, i_ild 5 1912), (1912, i_ifne 1927 1915), (1915, i_ald 3 1916), (1916, i_psh (.int 0) 1917), (1917, i_aldJ 1918)]
theorem cs12_23 : ∀ q ∈ cl12_23, Sd gd_mt M12 q.1 q.2 := gd_ac r12_1838 (gd_ac r12_1841 (gd_ac r12_1843 (gd_ac r12_1844 (gd_ac r12_1847 (gd_ac r12_1849 (gd_ac r12_1852 (gd_ac r12_1853 (gd_ac r12_1854 (gd_ac r12_1856 (gd_ac r12_1859 (gd_ac r12_1860 (gd_ac r12_1861 (gd_ac r12_1862 (gd_ac r12_1864 (gd_ac r12_1865 (gd_ac r12_1866 (gd_ac r12_1869 (gd_ac r12_1870 (gd_ac r12_1871 (gd_ac r12_1874 (gd_ac r12_1875 (gd_ac r12_1876 (gd_ac r12_1878 (gd_ac r12_1879 (gd_ac r12_1880 (gd_ac r12_1881 (gd_ac r12_1882 (gd_ac r12_1885 (gd_ac r12_1887 (gd_ac r12_1888 (gd_ac r12_1889 (gd_ac r12_1891 (gd_ac r12_1892 (gd_ac r12_1893 (gd_ac r12_1894 (gd_ac r12_1897 (gd_ac r12_1899 (gd_ac r12_1900 (gd_ac r12_1903 (gd_ac r12_1905 (gd_ac r12_1908 (gd_ac r12_1909 (gd_ac r12_1910 (gd_ac r12_1912 (gd_ac r12_1915 (gd_ac r12_1916 (gd_ac r12_1917 (gd_an))))))))))))))))))))))))))))))))))))))))))))))))
theorem r12_1918 : Sd gd_mt M12 1918 (i_ild 6 1920) := sd_iload dL_law_1918 rfl
theorem r12_1920 : Sd gd_mt M12 1920 (i_i2l 1921) := sd_i2l dL_law_1920 rfl
theorem r12_1921 : Sd gd_mt M12 1921 (i_lcmp 1922) := sd_lcmp dL_law_1921 rfl
theorem r12_1922 : Sd gd_mt M12 1922 (i_ifeq 1927 1925) := sd_ifeq dL_law_1922 (by decide) rfl
theorem r12_1925 : Sd gd_mt M12 1925 (i_psh (.int 0) 1926) := sd_iconst dL_law_1925 (by decide) rfl
theorem r12_1926 : Sd gd_mt M12 1926 (i_zret) := sd_zret rfl dL_law_1926
theorem r12_1927 : Sd gd_mt M12 1927 (i_msk [true, true, true, true, true, false, false, false] (i_goto 2328)) := sd_msk _ (sd_goto dL_law_1927 (by decide))
theorem r12_1930 : Sd gd_mt M12 1930 (i_ald 1 1931) := sd_aload_n dL_law_1930 rfl rfl
theorem r12_1931 : Sd gd_mt M12 1931 (i_ald 0 1932) := sd_aload_n dL_law_1931 rfl rfl
theorem r12_1932 : Sd gd_mt M12 1932 (i_ild 4 1934) := sd_iload dL_law_1932 rfl
theorem r12_1934 : Sd gd_mt M12 1934 (i_psh (.int 1) 1935) := sd_iconst dL_law_1934 (by decide) rfl
theorem r12_1935 : Sd gd_mt M12 1935 (i_iadd 1936) := sd_iadd dL_law_1935 rfl
theorem r12_1936 : Sd gd_mt M12 1936 (i_aldF 41 1937) := sd_ialdF dL_law_1936 rfl
theorem r12_1937 : Sd gd_mt M12 1937 (i_ald 3 1938) := sd_aload_n dL_law_1937 rfl rfl
theorem r12_1938 : Sd gd_mt M12 1938 (i_cS 37 3 1941) := sd_cS2 e37 cal37 q1388 q1389 dL_law_1938 rfl
theorem r12_1941 : Sd gd_mt M12 1941 (i_msk [true, true, true, true, true, false, false, false] (i_ist 5 1943)) := sd_msk _ (sd_istore dL_law_1941 (by decide) rfl)
theorem r12_1943 : Sd gd_mt M12 1943 (i_ald 2 1944) := sd_aload_n dL_law_1943 rfl rfl
theorem r12_1944 : Sd gd_mt M12 1944 (i_ald 0 1945) := sd_aload_n dL_law_1944 rfl rfl
theorem r12_1945 : Sd gd_mt M12 1945 (i_ild 4 1947) := sd_iload dL_law_1945 rfl
theorem r12_1947 : Sd gd_mt M12 1947 (i_psh (.int 1) 1948) := sd_iconst dL_law_1947 (by decide) rfl
theorem r12_1948 : Sd gd_mt M12 1948 (i_iadd 1949) := sd_iadd dL_law_1948 rfl
theorem r12_1949 : Sd gd_mt M12 1949 (i_aldF 41 1950) := sd_ialdF dL_law_1949 rfl
theorem r12_1950 : Sd gd_mt M12 1950 (i_cV 271 1 8 1953) := sd_cV2 e271 cal271 q2001 q2002 (rfl : gd_cl 8 = some _) q2003 dL_law_1950 rfl
theorem r12_1953 : Sd gd_mt M12 1953 (i_msk [true, true, true, true, true, true, false, false] (i_ist 6 1955)) := sd_msk _ (sd_istore dL_law_1953 (by decide) rfl)
theorem r12_1955 : Sd gd_mt M12 1955 (i_ald 2 1956) := sd_aload_n dL_law_1955 rfl rfl
theorem r12_1956 : Sd gd_mt M12 1956 (i_cV 175 0 8 1959) := sd_cV2 e175 cal175 q1432 q1433 (rfl : gd_cl 8 = some _) q1434 dL_law_1956 rfl
theorem r12_1959 : Sd gd_mt M12 1959 (i_msk [true, true, true, true, true, true, true, false] (i_ild 5 1961)) := sd_msk _ (sd_iload dL_law_1959 rfl)
theorem r12_1961 : Sd gd_mt M12 1961 (i_iceq 1966 1964) := sd_iceq dL_law_1961 (by decide) rfl
theorem r12_1964 : Sd gd_mt M12 1964 (i_psh (.int 0) 1965) := sd_iconst dL_law_1964 (by decide) rfl
theorem r12_1965 : Sd gd_mt M12 1965 (i_zret) := sd_zret rfl dL_law_1965
theorem r12_1966 : Sd gd_mt M12 1966 (i_ild 5 1968) := sd_iload dL_law_1966 rfl
theorem r12_1968 : Sd gd_mt M12 1968 (i_ifne 1983 1971) := sd_ifne dL_law_1968 (by decide) rfl
theorem r12_1971 : Sd gd_mt M12 1971 (i_ald 3 1972) := sd_aload_n dL_law_1971 rfl rfl
theorem r12_1972 : Sd gd_mt M12 1972 (i_psh (.int 0) 1973) := sd_iconst dL_law_1972 (by decide) rfl
theorem r12_1973 : Sd gd_mt M12 1973 (i_aldJ 1974) := sd_lald dL_law_1973 rfl
theorem r12_1974 : Sd gd_mt M12 1974 (i_ild 6 1976) := sd_iload dL_law_1974 rfl
theorem r12_1976 : Sd gd_mt M12 1976 (i_i2l 1977) := sd_i2l dL_law_1976 rfl
theorem r12_1977 : Sd gd_mt M12 1977 (i_lcmp 1978) := sd_lcmp dL_law_1977 rfl
theorem r12_1978 : Sd gd_mt M12 1978 (i_ifeq 1983 1981) := sd_ifeq dL_law_1978 (by decide) rfl
theorem r12_1981 : Sd gd_mt M12 1981 (i_psh (.int 0) 1982) := sd_iconst dL_law_1981 (by decide) rfl
theorem r12_1982 : Sd gd_mt M12 1982 (i_zret) := sd_zret rfl dL_law_1982
theorem r12_1983 : Sd gd_mt M12 1983 (i_msk [true, true, true, true, true, false, false, false] (i_goto 2328)) := sd_msk _ (sd_goto dL_law_1983 (by decide))
theorem r12_1986 : Sd gd_mt M12 1986 (i_ald 1 1987) := sd_aload_n dL_law_1986 rfl rfl
theorem r12_1987 : Sd gd_mt M12 1987 (i_ald 0 1988) := sd_aload_n dL_law_1987 rfl rfl
theorem r12_1988 : Sd gd_mt M12 1988 (i_ild 4 1990) := sd_iload dL_law_1988 rfl
theorem r12_1990 : Sd gd_mt M12 1990 (i_psh (.int 1) 1991) := sd_iconst dL_law_1990 (by decide) rfl
theorem r12_1991 : Sd gd_mt M12 1991 (i_iadd 1992) := sd_iadd dL_law_1991 rfl
theorem r12_1992 : Sd gd_mt M12 1992 (i_aldF 41 1993) := sd_ialdF dL_law_1992 rfl
def cl12_24 : List (Nat × gd_I) := [(1918, i_ild 6 1920), (1920, i_i2l 1921), (1921, i_lcmp 1922), (1922, i_ifeq 1927 1925), (1925, i_psh (.int 0) 1926), (1926, i_zret), (1927, i_msk [true, true, true, true, true, false, false, false] (i_goto 2328)), (1930, i_ald 1 1931), (1931, i_ald 0 1932), (1932, i_ild 4 1934), (1934, i_psh (.int 1) 1935), (1935, i_iadd 1936), (1936, i_aldF 41 1937), (1937, i_ald 3 1938), (1938, i_cS 37 3 1941), (1941, i_msk [true, true, true, true, true, false, false, false] (i_ist 5 1943)), (1943, i_ald 2 1944), (1944, i_ald 0 1945), (1945, i_ild 4 1947), (1947, i_psh (.int 1) 1948), (1948, i_iadd 1949), (1949, i_aldF 41 1950), (1950, i_cV 271 1 8 1953), (1953, i_msk [true, true, true, true, true, true, false, false] (i_ist 6 1955)), (1955, i_ald 2 1956), (1956, i_cV 175 0 8 1959), (1959, i_msk [true, true, true, true, true, true, true, false] (i_ild 5 1961)), (1961, i_iceq 1966 1964), (1964, i_psh (.int 0) 1965), (1965, i_zret), (1966, i_ild 5 1968), (1968, i_ifne 1983 1971), (1971, i_ald 3 1972), (1972, i_psh (.int 0) 1973), (1973, i_aldJ 1974), (1974, i_ild 6 1976), (1976, i_i2l 1977), (1977, i_lcmp 1978), (1978, i_ifeq 1983 1981), (1981, i_psh (.int 0) 1982), (1982, i_zret), (1983, i_msk [true, true, true, true, true, false, false, false] (i_goto 2328)), (1986, i_ald 1 1987), (1987, i_ald 0 1988), (1988, i_ild 4 1990), (1990, i_psh (.int 1) 1991), (1991, i_iadd 1992), (1992, i_aldF 41 1993)]
theorem cs12_24 : ∀ q ∈ cl12_24, Sd gd_mt M12 q.1 q.2 := gd_ac r12_1918 (gd_ac r12_1920 (gd_ac r12_1921 (gd_ac r12_1922 (gd_ac r12_1925 (gd_ac r12_1926 (gd_ac r12_1927 (gd_ac r12_1930 (gd_ac r12_1931 (gd_ac r12_1932 (gd_ac r12_1934 (gd_ac r12_1935 (gd_ac r12_1936 (gd_ac r12_1937 (gd_ac r12_1938 (gd_ac r12_1941 (gd_ac r12_1943 (gd_ac r12_1944 (gd_ac r12_1945 (gd_ac r12_1947 (gd_ac r12_1948 (gd_ac r12_1949 (gd_ac r12_1950 (gd_ac r12_1953 (gd_ac r12_1955 (gd_ac r12_1956 (gd_ac r12_1959 (gd_ac r12_1961 (gd_ac r12_1964 (gd_ac r12_1965 (gd_ac r12_1966 (gd_ac r12_1968 (gd_ac r12_1971 (gd_ac r12_1972 (gd_ac r12_1973 (gd_ac r12_1974 (gd_ac r12_1976 (gd_ac r12_1977 (gd_ac r12_1978 (gd_ac r12_1981 (gd_ac r12_1982 (gd_ac r12_1983 (gd_ac r12_1986 (gd_ac r12_1987 (gd_ac r12_1988 (gd_ac r12_1990 (gd_ac r12_1991 (gd_ac r12_1992 (gd_an))))))))))))))))))))))))))))))))))))))))))))))))
theorem r12_1993 : Sd gd_mt M12 1993 (i_ald 3 1994) := sd_aload_n dL_law_1993 rfl rfl
theorem r12_1994 : Sd gd_mt M12 1994 (i_cS 38 3 1997) := sd_cS2 e38 cal38 q1395 q1396 dL_law_1994 rfl
theorem r12_1997 : Sd gd_mt M12 1997 (i_msk [true, true, true, true, true, false, false, false] (i_ist 5 1999)) := sd_msk _ (sd_istore dL_law_1997 (by decide) rfl)
theorem r12_1999 : Sd gd_mt M12 1999 (i_ald 2 2000) := sd_aload_n dL_law_1999 rfl rfl
theorem r12_2000 : Sd gd_mt M12 2000 (i_ald 0 2001) := sd_aload_n dL_law_2000 rfl rfl
theorem r12_2001 : Sd gd_mt M12 2001 (i_ild 4 2003) := sd_iload dL_law_2001 rfl
theorem r12_2003 : Sd gd_mt M12 2003 (i_psh (.int 1) 2004) := sd_iconst dL_law_2003 (by decide) rfl
theorem r12_2004 : Sd gd_mt M12 2004 (i_iadd 2005) := sd_iadd dL_law_2004 rfl
theorem r12_2005 : Sd gd_mt M12 2005 (i_aldF 41 2006) := sd_ialdF dL_law_2005 rfl
theorem r12_2006 : Sd gd_mt M12 2006 (i_cV 272 1 8 2009) := sd_cV2 e272 cal272 q2005 q2006 (rfl : gd_cl 8 = some _) q2007 dL_law_2006 rfl
theorem r12_2009 : Sd gd_mt M12 2009 (i_msk [true, true, true, true, true, true, false, false] (i_ist 6 2011)) := sd_msk _ (sd_istore dL_law_2009 (by decide) rfl)
theorem r12_2011 : Sd gd_mt M12 2011 (i_ald 2 2012) := sd_aload_n dL_law_2011 rfl rfl
theorem r12_2012 : Sd gd_mt M12 2012 (i_cV 175 0 8 2015) := sd_cV2 e175 cal175 q1432 q1433 (rfl : gd_cl 8 = some _) q1434 dL_law_2012 rfl
theorem r12_2015 : Sd gd_mt M12 2015 (i_msk [true, true, true, true, true, true, true, false] (i_ild 5 2017)) := sd_msk _ (sd_iload dL_law_2015 rfl)
theorem r12_2017 : Sd gd_mt M12 2017 (i_iceq 2022 2020) := sd_iceq dL_law_2017 (by decide) rfl
theorem r12_2020 : Sd gd_mt M12 2020 (i_psh (.int 0) 2021) := sd_iconst dL_law_2020 (by decide) rfl
theorem r12_2021 : Sd gd_mt M12 2021 (i_zret) := sd_zret rfl dL_law_2021
theorem r12_2022 : Sd gd_mt M12 2022 (i_ild 5 2024) := sd_iload dL_law_2022 rfl
theorem r12_2024 : Sd gd_mt M12 2024 (i_ifne 2039 2027) := sd_ifne dL_law_2024 (by decide) rfl
theorem r12_2027 : Sd gd_mt M12 2027 (i_ald 3 2028) := sd_aload_n dL_law_2027 rfl rfl
theorem r12_2028 : Sd gd_mt M12 2028 (i_psh (.int 0) 2029) := sd_iconst dL_law_2028 (by decide) rfl
theorem r12_2029 : Sd gd_mt M12 2029 (i_aldJ 2030) := sd_lald dL_law_2029 rfl
theorem r12_2030 : Sd gd_mt M12 2030 (i_ild 6 2032) := sd_iload dL_law_2030 rfl
theorem r12_2032 : Sd gd_mt M12 2032 (i_i2l 2033) := sd_i2l dL_law_2032 rfl
theorem r12_2033 : Sd gd_mt M12 2033 (i_lcmp 2034) := sd_lcmp dL_law_2033 rfl
theorem r12_2034 : Sd gd_mt M12 2034 (i_ifeq 2039 2037) := sd_ifeq dL_law_2034 (by decide) rfl
theorem r12_2037 : Sd gd_mt M12 2037 (i_psh (.int 0) 2038) := sd_iconst dL_law_2037 (by decide) rfl
theorem r12_2038 : Sd gd_mt M12 2038 (i_zret) := sd_zret rfl dL_law_2038
theorem r12_2039 : Sd gd_mt M12 2039 (i_msk [true, true, true, true, true, false, false, false] (i_goto 2328)) := sd_msk _ (sd_goto dL_law_2039 (by decide))
theorem r12_2042 : Sd gd_mt M12 2042 (i_ald 1 2043) := sd_aload_n dL_law_2042 rfl rfl
theorem r12_2043 : Sd gd_mt M12 2043 (i_ald 0 2044) := sd_aload_n dL_law_2043 rfl rfl
theorem r12_2044 : Sd gd_mt M12 2044 (i_ild 4 2046) := sd_iload dL_law_2044 rfl
theorem r12_2046 : Sd gd_mt M12 2046 (i_psh (.int 1) 2047) := sd_iconst dL_law_2046 (by decide) rfl
theorem r12_2047 : Sd gd_mt M12 2047 (i_iadd 2048) := sd_iadd dL_law_2047 rfl
theorem r12_2048 : Sd gd_mt M12 2048 (i_aldF 41 2049) := sd_ialdF dL_law_2048 rfl
theorem r12_2049 : Sd gd_mt M12 2049 (i_ald 0 2050) := sd_aload_n dL_law_2049 rfl rfl
theorem r12_2050 : Sd gd_mt M12 2050 (i_ild 4 2052) := sd_iload dL_law_2050 rfl
theorem r12_2052 : Sd gd_mt M12 2052 (i_psh (.int 2) 2053) := sd_iconst dL_law_2052 (by decide) rfl
theorem r12_2053 : Sd gd_mt M12 2053 (i_iadd 2054) := sd_iadd dL_law_2053 rfl
theorem r12_2054 : Sd gd_mt M12 2054 (i_aldF 41 2055) := sd_ialdF dL_law_2054 rfl
theorem r12_2055 : Sd gd_mt M12 2055 (i_ald 0 2056) := sd_aload_n dL_law_2055 rfl rfl
theorem r12_2056 : Sd gd_mt M12 2056 (i_ild 4 2058) := sd_iload dL_law_2056 rfl
theorem r12_2058 : Sd gd_mt M12 2058 (i_psh (.int 3) 2059) := sd_iconst dL_law_2058 (by decide) rfl
theorem r12_2059 : Sd gd_mt M12 2059 (i_iadd 2060) := sd_iadd dL_law_2059 rfl
theorem r12_2060 : Sd gd_mt M12 2060 (i_aldF 41 2061) := sd_ialdF dL_law_2060 rfl
theorem r12_2061 : Sd gd_mt M12 2061 (i_ald 0 2062) := sd_aload_n dL_law_2061 rfl rfl
theorem r12_2062 : Sd gd_mt M12 2062 (i_ild 4 2064) := sd_iload dL_law_2062 rfl
theorem r12_2064 : Sd gd_mt M12 2064 (i_psh (.int 4) 2065) := sd_iconst dL_law_2064 (by decide) rfl
def cl12_25 : List (Nat × gd_I) := [(1993, i_ald 3 1994), (1994, i_cS 38 3 1997), (1997, i_msk [true, true, true, true, true, false, false, false] (i_ist 5 1999)), (1999, i_ald 2 2000), (2000, i_ald 0 2001), (2001, i_ild 4 2003), (2003, i_psh (.int 1) 2004), (2004, i_iadd 2005), (2005, i_aldF 41 2006), (2006, i_cV 272 1 8 2009), (2009, i_msk [true, true, true, true, true, true, false, false] (i_ist 6 2011)), (2011, i_ald 2 2012), (2012, i_cV 175 0 8 2015), (2015, i_msk [true, true, true, true, true, true, true, false] (i_ild 5 2017)), (2017, i_iceq 2022 2020), (2020, i_psh (.int 0) 2021), (2021, i_zret), (2022, i_ild 5 2024), (2024, i_ifne 2039 2027), (2027, i_ald 3 2028), (2028, i_psh (.int 0) 2029), (2029, i_aldJ 2030), (2030, i_ild 6 2032), (2032, i_i2l 2033), (2033, i_lcmp 2034), (2034, i_ifeq 2039 2037), (2037, i_psh (.int 0) 2038), (2038, i_zret), (2039, i_msk [true, true, true, true, true, false, false, false] (i_goto 2328)), (2042, i_ald 1 2043), (2043, i_ald 0 2044), (2044, i_ild 4 2046), (2046, i_psh (.int 1) 2047), (2047, i_iadd 2048), (2048, i_aldF 41 2049), (2049, i_ald 0 2050), (2050, i_ild 4 2052), (2052, i_psh (.int 2) 2053), (2053, i_iadd 2054), (2054, i_aldF 41 2055), (2055, i_ald 0 2056), (2056, i_ild 4 2058), (2058, i_psh (.int 3) 2059), (2059, i_iadd 2060), (2060, i_aldF 41 2061), (2061, i_ald 0 2062), (2062, i_ild 4 2064), (2064, i_psh (.int 4) 2065)]
theorem cs12_25 : ∀ q ∈ cl12_25, Sd gd_mt M12 q.1 q.2 := gd_ac r12_1993 (gd_ac r12_1994 (gd_ac r12_1997 (gd_ac r12_1999 (gd_ac r12_2000 (gd_ac r12_2001 (gd_ac r12_2003 (gd_ac r12_2004 (gd_ac r12_2005 (gd_ac r12_2006 (gd_ac r12_2009 (gd_ac r12_2011 (gd_ac r12_2012 (gd_ac r12_2015 (gd_ac r12_2017 (gd_ac r12_2020 (gd_ac r12_2021 (gd_ac r12_2022 (gd_ac r12_2024 (gd_ac r12_2027 (gd_ac r12_2028 (gd_ac r12_2029 (gd_ac r12_2030 (gd_ac r12_2032 (gd_ac r12_2033 (gd_ac r12_2034 (gd_ac r12_2037 (gd_ac r12_2038 (gd_ac r12_2039 (gd_ac r12_2042 (gd_ac r12_2043 (gd_ac r12_2044 (gd_ac r12_2046 (gd_ac r12_2047 (gd_ac r12_2048 (gd_ac r12_2049 (gd_ac r12_2050 (gd_ac r12_2052 (gd_ac r12_2053 (gd_ac r12_2054 (gd_ac r12_2055 (gd_ac r12_2056 (gd_ac r12_2058 (gd_ac r12_2059 (gd_ac r12_2060 (gd_ac r12_2061 (gd_ac r12_2062 (gd_ac r12_2064 (gd_an))))))))))))))))))))))))))))))))))))))))))))))))
theorem r12_2065 : Sd gd_mt M12 2065 (i_iadd 2066) := sd_iadd dL_law_2065 rfl
theorem r12_2066 : Sd gd_mt M12 2066 (i_aldF 41 2067) := sd_ialdF dL_law_2066 rfl
theorem r12_2067 : Sd gd_mt M12 2067 (i_ald 3 2068) := sd_aload_n dL_law_2067 rfl rfl
theorem r12_2068 : Sd gd_mt M12 2068 (i_cS 39 6 2071) := sd_cS2 e39 cal39 q1402 q1403 dL_law_2068 rfl
theorem r12_2071 : Sd gd_mt M12 2071 (i_msk [true, true, true, true, true, false, false, false] (i_ist 5 2073)) := sd_msk _ (sd_istore dL_law_2071 (by decide) rfl)
theorem r12_2073 : Sd gd_mt M12 2073 (i_ald 2 2074) := sd_aload_n dL_law_2073 rfl rfl
theorem r12_2074 : Sd gd_mt M12 2074 (i_ald 0 2075) := sd_aload_n dL_law_2074 rfl rfl
theorem r12_2075 : Sd gd_mt M12 2075 (i_ild 4 2077) := sd_iload dL_law_2075 rfl
theorem r12_2077 : Sd gd_mt M12 2077 (i_psh (.int 1) 2078) := sd_iconst dL_law_2077 (by decide) rfl
theorem r12_2078 : Sd gd_mt M12 2078 (i_iadd 2079) := sd_iadd dL_law_2078 rfl
theorem r12_2079 : Sd gd_mt M12 2079 (i_aldF 41 2080) := sd_ialdF dL_law_2079 rfl
theorem r12_2080 : Sd gd_mt M12 2080 (i_ald 0 2081) := sd_aload_n dL_law_2080 rfl rfl
theorem r12_2081 : Sd gd_mt M12 2081 (i_ild 4 2083) := sd_iload dL_law_2081 rfl
theorem r12_2083 : Sd gd_mt M12 2083 (i_psh (.int 2) 2084) := sd_iconst dL_law_2083 (by decide) rfl
theorem r12_2084 : Sd gd_mt M12 2084 (i_iadd 2085) := sd_iadd dL_law_2084 rfl
theorem r12_2085 : Sd gd_mt M12 2085 (i_aldF 41 2086) := sd_ialdF dL_law_2085 rfl
theorem r12_2086 : Sd gd_mt M12 2086 (i_ald 0 2087) := sd_aload_n dL_law_2086 rfl rfl
theorem r12_2087 : Sd gd_mt M12 2087 (i_ild 4 2089) := sd_iload dL_law_2087 rfl
theorem r12_2089 : Sd gd_mt M12 2089 (i_psh (.int 3) 2090) := sd_iconst dL_law_2089 (by decide) rfl
theorem r12_2090 : Sd gd_mt M12 2090 (i_iadd 2091) := sd_iadd dL_law_2090 rfl
theorem r12_2091 : Sd gd_mt M12 2091 (i_aldF 41 2092) := sd_ialdF dL_law_2091 rfl
theorem r12_2092 : Sd gd_mt M12 2092 (i_ald 0 2093) := sd_aload_n dL_law_2092 rfl rfl
theorem r12_2093 : Sd gd_mt M12 2093 (i_ild 4 2095) := sd_iload dL_law_2093 rfl
theorem r12_2095 : Sd gd_mt M12 2095 (i_psh (.int 4) 2096) := sd_iconst dL_law_2095 (by decide) rfl
theorem r12_2096 : Sd gd_mt M12 2096 (i_iadd 2097) := sd_iadd dL_law_2096 rfl
theorem r12_2097 : Sd gd_mt M12 2097 (i_aldF 41 2098) := sd_ialdF dL_law_2097 rfl
theorem r12_2098 : Sd gd_mt M12 2098 (i_cV 273 4 8 2101) := sd_cV2 e273 cal273 q2009 q2010 (rfl : gd_cl 8 = some _) q2011 dL_law_2098 rfl
theorem r12_2101 : Sd gd_mt M12 2101 (i_msk [true, true, true, true, true, true, false, false] (i_ist 6 2103)) := sd_msk _ (sd_istore dL_law_2101 (by decide) rfl)
theorem r12_2103 : Sd gd_mt M12 2103 (i_ald 2 2104) := sd_aload_n dL_law_2103 rfl rfl
theorem r12_2104 : Sd gd_mt M12 2104 (i_cV 175 0 8 2107) := sd_cV2 e175 cal175 q1432 q1433 (rfl : gd_cl 8 = some _) q1434 dL_law_2104 rfl
theorem r12_2107 : Sd gd_mt M12 2107 (i_msk [true, true, true, true, true, true, true, false] (i_ild 5 2109)) := sd_msk _ (sd_iload dL_law_2107 rfl)
theorem r12_2109 : Sd gd_mt M12 2109 (i_iceq 2114 2112) := sd_iceq dL_law_2109 (by decide) rfl
theorem r12_2112 : Sd gd_mt M12 2112 (i_psh (.int 0) 2113) := sd_iconst dL_law_2112 (by decide) rfl
theorem r12_2113 : Sd gd_mt M12 2113 (i_zret) := sd_zret rfl dL_law_2113
theorem r12_2114 : Sd gd_mt M12 2114 (i_ild 5 2116) := sd_iload dL_law_2114 rfl
theorem r12_2116 : Sd gd_mt M12 2116 (i_ifne 2131 2119) := sd_ifne dL_law_2116 (by decide) rfl
theorem r12_2119 : Sd gd_mt M12 2119 (i_ald 3 2120) := sd_aload_n dL_law_2119 rfl rfl
theorem r12_2120 : Sd gd_mt M12 2120 (i_psh (.int 0) 2121) := sd_iconst dL_law_2120 (by decide) rfl
theorem r12_2121 : Sd gd_mt M12 2121 (i_aldJ 2122) := sd_lald dL_law_2121 rfl
theorem r12_2122 : Sd gd_mt M12 2122 (i_ild 6 2124) := sd_iload dL_law_2122 rfl
theorem r12_2124 : Sd gd_mt M12 2124 (i_i2l 2125) := sd_i2l dL_law_2124 rfl
theorem r12_2125 : Sd gd_mt M12 2125 (i_lcmp 2126) := sd_lcmp dL_law_2125 rfl
theorem r12_2126 : Sd gd_mt M12 2126 (i_ifeq 2131 2129) := sd_ifeq dL_law_2126 (by decide) rfl
theorem r12_2129 : Sd gd_mt M12 2129 (i_psh (.int 0) 2130) := sd_iconst dL_law_2129 (by decide) rfl
theorem r12_2130 : Sd gd_mt M12 2130 (i_zret) := sd_zret rfl dL_law_2130
theorem r12_2131 : Sd gd_mt M12 2131 (i_msk [true, true, true, true, true, false, false, false] (i_goto 2328)) := sd_msk _ (sd_goto dL_law_2131 (by decide))
theorem r12_2134 : Sd gd_mt M12 2134 (i_ald 1 2135) := sd_aload_n dL_law_2134 rfl rfl
theorem r12_2135 : Sd gd_mt M12 2135 (i_ald 0 2136) := sd_aload_n dL_law_2135 rfl rfl
def cl12_26 : List (Nat × gd_I) := [(2065, i_iadd 2066), (2066, i_aldF 41 2067), (2067, i_ald 3 2068), (2068, i_cS 39 6 2071), (2071, i_msk [true, true, true, true, true, false, false, false] (i_ist 5 2073)), (2073, i_ald 2 2074), (2074, i_ald 0 2075), (2075, i_ild 4 2077), (2077, i_psh (.int 1) 2078), (2078, i_iadd 2079), (2079, i_aldF 41 2080), (2080, i_ald 0 2081), (2081, i_ild 4 2083), (2083, i_psh (.int 2) 2084), (2084, i_iadd 2085), (2085, i_aldF 41 2086), (2086, i_ald 0 2087), (2087, i_ild 4 2089), (2089, i_psh (.int 3) 2090), (2090, i_iadd 2091), (2091, i_aldF 41 2092), (2092, i_ald 0 2093), (2093, i_ild 4 2095), (2095, i_psh (.int 4) 2096), (2096, i_iadd 2097), (2097, i_aldF 41 2098), (2098, i_cV 273 4 8 2101), (2101, i_msk [true, true, true, true, true, true, false, false] (i_ist 6 2103)), (2103, i_ald 2 2104), (2104, i_cV 175 0 8 2107), (2107, i_msk [true, true, true, true, true, true, true, false] (i_ild 5 2109)), (2109, i_iceq 2114 2112), (2112, i_psh (.int 0) 2113), (2113, i_zret), (2114, i_ild 5 2116), (2116, i_ifne 2131 2119), (2119, i_ald 3 2120), (2120, i_psh (.int 0) 2121), (2121, i_aldJ 2122), (2122, i_ild 6 2124), (2124, i_i2l 2125), (2125, i_lcmp 2126), (2126, i_ifeq 2131 2129), (2129, i_psh (.int 0) 2130), (2130, i_zret), (2131, i_msk [true, true, true, true, true, false, false, false] (i_goto 2328)), (2134, i_ald 1 2135), (2135, i_ald 0 2136)]
theorem cs12_26 : ∀ q ∈ cl12_26, Sd gd_mt M12 q.1 q.2 := gd_ac r12_2065 (gd_ac r12_2066 (gd_ac r12_2067 (gd_ac r12_2068 (gd_ac r12_2071 (gd_ac r12_2073 (gd_ac r12_2074 (gd_ac r12_2075 (gd_ac r12_2077 (gd_ac r12_2078 (gd_ac r12_2079 (gd_ac r12_2080 (gd_ac r12_2081 (gd_ac r12_2083 (gd_ac r12_2084 (gd_ac r12_2085 (gd_ac r12_2086 (gd_ac r12_2087 (gd_ac r12_2089 (gd_ac r12_2090 (gd_ac r12_2091 (gd_ac r12_2092 (gd_ac r12_2093 (gd_ac r12_2095 (gd_ac r12_2096 (gd_ac r12_2097 (gd_ac r12_2098 (gd_ac r12_2101 (gd_ac r12_2103 (gd_ac r12_2104 (gd_ac r12_2107 (gd_ac r12_2109 (gd_ac r12_2112 (gd_ac r12_2113 (gd_ac r12_2114 (gd_ac r12_2116 (gd_ac r12_2119 (gd_ac r12_2120 (gd_ac r12_2121 (gd_ac r12_2122 (gd_ac r12_2124 (gd_ac r12_2125 (gd_ac r12_2126 (gd_ac r12_2129 (gd_ac r12_2130 (gd_ac r12_2131 (gd_ac r12_2134 (gd_ac r12_2135 (gd_an))))))))))))))))))))))))))))))))))))))))))))))))
theorem r12_2136 : Sd gd_mt M12 2136 (i_ild 4 2138) := sd_iload dL_law_2136 rfl
theorem r12_2138 : Sd gd_mt M12 2138 (i_psh (.int 1) 2139) := sd_iconst dL_law_2138 (by decide) rfl
theorem r12_2139 : Sd gd_mt M12 2139 (i_iadd 2140) := sd_iadd dL_law_2139 rfl
theorem r12_2140 : Sd gd_mt M12 2140 (i_aldF 41 2141) := sd_ialdF dL_law_2140 rfl
theorem r12_2141 : Sd gd_mt M12 2141 (i_ald 0 2142) := sd_aload_n dL_law_2141 rfl rfl
theorem r12_2142 : Sd gd_mt M12 2142 (i_ild 4 2144) := sd_iload dL_law_2142 rfl
theorem r12_2144 : Sd gd_mt M12 2144 (i_psh (.int 2) 2145) := sd_iconst dL_law_2144 (by decide) rfl
theorem r12_2145 : Sd gd_mt M12 2145 (i_iadd 2146) := sd_iadd dL_law_2145 rfl
theorem r12_2146 : Sd gd_mt M12 2146 (i_aldF 41 2147) := sd_ialdF dL_law_2146 rfl
theorem r12_2147 : Sd gd_mt M12 2147 (i_ald 0 2148) := sd_aload_n dL_law_2147 rfl rfl
theorem r12_2148 : Sd gd_mt M12 2148 (i_ild 4 2150) := sd_iload dL_law_2148 rfl
theorem r12_2150 : Sd gd_mt M12 2150 (i_psh (.int 3) 2151) := sd_iconst dL_law_2150 (by decide) rfl
theorem r12_2151 : Sd gd_mt M12 2151 (i_iadd 2152) := sd_iadd dL_law_2151 rfl
theorem r12_2152 : Sd gd_mt M12 2152 (i_aldF 41 2153) := sd_ialdF dL_law_2152 rfl
theorem r12_2153 : Sd gd_mt M12 2153 (i_ald 0 2154) := sd_aload_n dL_law_2153 rfl rfl
theorem r12_2154 : Sd gd_mt M12 2154 (i_ild 4 2156) := sd_iload dL_law_2154 rfl
theorem r12_2156 : Sd gd_mt M12 2156 (i_psh (.int 4) 2157) := sd_iconst dL_law_2156 (by decide) rfl
theorem r12_2157 : Sd gd_mt M12 2157 (i_iadd 2158) := sd_iadd dL_law_2157 rfl
theorem r12_2158 : Sd gd_mt M12 2158 (i_aldF 41 2159) := sd_ialdF dL_law_2158 rfl
theorem r12_2159 : Sd gd_mt M12 2159 (i_ald 0 2160) := sd_aload_n dL_law_2159 rfl rfl
theorem r12_2160 : Sd gd_mt M12 2160 (i_ild 4 2162) := sd_iload dL_law_2160 rfl
theorem r12_2162 : Sd gd_mt M12 2162 (i_psh (.int 5) 2163) := sd_iconst dL_law_2162 (by decide) rfl
theorem r12_2163 : Sd gd_mt M12 2163 (i_iadd 2164) := sd_iadd dL_law_2163 rfl
theorem r12_2164 : Sd gd_mt M12 2164 (i_aldF 41 2165) := sd_ialdF dL_law_2164 rfl
theorem r12_2165 : Sd gd_mt M12 2165 (i_ald 0 2166) := sd_aload_n dL_law_2165 rfl rfl
theorem r12_2166 : Sd gd_mt M12 2166 (i_ild 4 2168) := sd_iload dL_law_2166 rfl
theorem r12_2168 : Sd gd_mt M12 2168 (i_psh (.int 6) 2170) := sd_bipush dL_law_2168 (by decide) rfl
theorem r12_2170 : Sd gd_mt M12 2170 (i_iadd 2171) := sd_iadd dL_law_2170 rfl
theorem r12_2171 : Sd gd_mt M12 2171 (i_aldF 41 2172) := sd_ialdF dL_law_2171 rfl
theorem r12_2172 : Sd gd_mt M12 2172 (i_ald 3 2173) := sd_aload_n dL_law_2172 rfl rfl
theorem r12_2173 : Sd gd_mt M12 2173 (i_cS 40 8 2176) := sd_cS2 e40 cal40 q1425 q1426 dL_law_2173 rfl
theorem r12_2176 : Sd gd_mt M12 2176 (i_msk [true, true, true, true, true, false, false, false] (i_ist 5 2178)) := sd_msk _ (sd_istore dL_law_2176 (by decide) rfl)
theorem r12_2178 : Sd gd_mt M12 2178 (i_ald 2 2179) := sd_aload_n dL_law_2178 rfl rfl
theorem r12_2179 : Sd gd_mt M12 2179 (i_ald 0 2180) := sd_aload_n dL_law_2179 rfl rfl
theorem r12_2180 : Sd gd_mt M12 2180 (i_ild 4 2182) := sd_iload dL_law_2180 rfl
theorem r12_2182 : Sd gd_mt M12 2182 (i_psh (.int 1) 2183) := sd_iconst dL_law_2182 (by decide) rfl
theorem r12_2183 : Sd gd_mt M12 2183 (i_iadd 2184) := sd_iadd dL_law_2183 rfl
theorem r12_2184 : Sd gd_mt M12 2184 (i_aldF 41 2185) := sd_ialdF dL_law_2184 rfl
theorem r12_2185 : Sd gd_mt M12 2185 (i_ald 0 2186) := sd_aload_n dL_law_2185 rfl rfl
theorem r12_2186 : Sd gd_mt M12 2186 (i_ild 4 2188) := sd_iload dL_law_2186 rfl
theorem r12_2188 : Sd gd_mt M12 2188 (i_psh (.int 2) 2189) := sd_iconst dL_law_2188 (by decide) rfl
theorem r12_2189 : Sd gd_mt M12 2189 (i_iadd 2190) := sd_iadd dL_law_2189 rfl
theorem r12_2190 : Sd gd_mt M12 2190 (i_aldF 41 2191) := sd_ialdF dL_law_2190 rfl
theorem r12_2191 : Sd gd_mt M12 2191 (i_ald 0 2192) := sd_aload_n dL_law_2191 rfl rfl
theorem r12_2192 : Sd gd_mt M12 2192 (i_ild 4 2194) := sd_iload dL_law_2192 rfl
theorem r12_2194 : Sd gd_mt M12 2194 (i_psh (.int 3) 2195) := sd_iconst dL_law_2194 (by decide) rfl
theorem r12_2195 : Sd gd_mt M12 2195 (i_iadd 2196) := sd_iadd dL_law_2195 rfl
theorem r12_2196 : Sd gd_mt M12 2196 (i_aldF 41 2197) := sd_ialdF dL_law_2196 rfl
def cl12_27 : List (Nat × gd_I) := [(2136, i_ild 4 2138), (2138, i_psh (.int 1) 2139), (2139, i_iadd 2140), (2140, i_aldF 41 2141), (2141, i_ald 0 2142), (2142, i_ild 4 2144), (2144, i_psh (.int 2) 2145), (2145, i_iadd 2146), (2146, i_aldF 41 2147), (2147, i_ald 0 2148), (2148, i_ild 4 2150), (2150, i_psh (.int 3) 2151), (2151, i_iadd 2152), (2152, i_aldF 41 2153), (2153, i_ald 0 2154), (2154, i_ild 4 2156), (2156, i_psh (.int 4) 2157), (2157, i_iadd 2158), (2158, i_aldF 41 2159), (2159, i_ald 0 2160), (2160, i_ild 4 2162), (2162, i_psh (.int 5) 2163), (2163, i_iadd 2164), (2164, i_aldF 41 2165), (2165, i_ald 0 2166), (2166, i_ild 4 2168), (2168, i_psh (.int 6) 2170), (2170, i_iadd 2171), (2171, i_aldF 41 2172), (2172, i_ald 3 2173), (2173, i_cS 40 8 2176), (2176, i_msk [true, true, true, true, true, false, false, false] (i_ist 5 2178)), (2178, i_ald 2 2179), (2179, i_ald 0 2180), (2180, i_ild 4 2182), (2182, i_psh (.int 1) 2183), (2183, i_iadd 2184), (2184, i_aldF 41 2185), (2185, i_ald 0 2186), (2186, i_ild 4 2188), (2188, i_psh (.int 2) 2189), (2189, i_iadd 2190), (2190, i_aldF 41 2191), (2191, i_ald 0 2192), (2192, i_ild 4 2194), (2194, i_psh (.int 3) 2195), (2195, i_iadd 2196), (2196, i_aldF 41 2197)]
theorem cs12_27 : ∀ q ∈ cl12_27, Sd gd_mt M12 q.1 q.2 := gd_ac r12_2136 (gd_ac r12_2138 (gd_ac r12_2139 (gd_ac r12_2140 (gd_ac r12_2141 (gd_ac r12_2142 (gd_ac r12_2144 (gd_ac r12_2145 (gd_ac r12_2146 (gd_ac r12_2147 (gd_ac r12_2148 (gd_ac r12_2150 (gd_ac r12_2151 (gd_ac r12_2152 (gd_ac r12_2153 (gd_ac r12_2154 (gd_ac r12_2156 (gd_ac r12_2157 (gd_ac r12_2158 (gd_ac r12_2159 (gd_ac r12_2160 (gd_ac r12_2162 (gd_ac r12_2163 (gd_ac r12_2164 (gd_ac r12_2165 (gd_ac r12_2166 (gd_ac r12_2168 (gd_ac r12_2170 (gd_ac r12_2171 (gd_ac r12_2172 (gd_ac r12_2173 (gd_ac r12_2176 (gd_ac r12_2178 (gd_ac r12_2179 (gd_ac r12_2180 (gd_ac r12_2182 (gd_ac r12_2183 (gd_ac r12_2184 (gd_ac r12_2185 (gd_ac r12_2186 (gd_ac r12_2188 (gd_ac r12_2189 (gd_ac r12_2190 (gd_ac r12_2191 (gd_ac r12_2192 (gd_ac r12_2194 (gd_ac r12_2195 (gd_ac r12_2196 (gd_an))))))))))))))))))))))))))))))))))))))))))))))))
theorem r12_2197 : Sd gd_mt M12 2197 (i_ald 0 2198) := sd_aload_n dL_law_2197 rfl rfl
theorem r12_2198 : Sd gd_mt M12 2198 (i_ild 4 2200) := sd_iload dL_law_2198 rfl
theorem r12_2200 : Sd gd_mt M12 2200 (i_psh (.int 4) 2201) := sd_iconst dL_law_2200 (by decide) rfl
theorem r12_2201 : Sd gd_mt M12 2201 (i_iadd 2202) := sd_iadd dL_law_2201 rfl
theorem r12_2202 : Sd gd_mt M12 2202 (i_aldF 41 2203) := sd_ialdF dL_law_2202 rfl
theorem r12_2203 : Sd gd_mt M12 2203 (i_ald 0 2204) := sd_aload_n dL_law_2203 rfl rfl
theorem r12_2204 : Sd gd_mt M12 2204 (i_ild 4 2206) := sd_iload dL_law_2204 rfl
theorem r12_2206 : Sd gd_mt M12 2206 (i_psh (.int 5) 2207) := sd_iconst dL_law_2206 (by decide) rfl
theorem r12_2207 : Sd gd_mt M12 2207 (i_iadd 2208) := sd_iadd dL_law_2207 rfl
theorem r12_2208 : Sd gd_mt M12 2208 (i_aldF 41 2209) := sd_ialdF dL_law_2208 rfl
theorem r12_2209 : Sd gd_mt M12 2209 (i_ald 0 2210) := sd_aload_n dL_law_2209 rfl rfl
theorem r12_2210 : Sd gd_mt M12 2210 (i_ild 4 2212) := sd_iload dL_law_2210 rfl
theorem r12_2212 : Sd gd_mt M12 2212 (i_psh (.int 6) 2214) := sd_bipush dL_law_2212 (by decide) rfl
theorem r12_2214 : Sd gd_mt M12 2214 (i_iadd 2215) := sd_iadd dL_law_2214 rfl
theorem r12_2215 : Sd gd_mt M12 2215 (i_aldF 41 2216) := sd_ialdF dL_law_2215 rfl
theorem r12_2216 : Sd gd_mt M12 2216 (i_cV 277 6 8 2219) := sd_cV2 e277 cal277 q2025 q2026 (rfl : gd_cl 8 = some _) q2027 dL_law_2216 rfl
theorem r12_2219 : Sd gd_mt M12 2219 (i_msk [true, true, true, true, true, true, false, false] (i_ist 6 2221)) := sd_msk _ (sd_istore dL_law_2219 (by decide) rfl)
theorem r12_2221 : Sd gd_mt M12 2221 (i_ald 2 2222) := sd_aload_n dL_law_2221 rfl rfl
theorem r12_2222 : Sd gd_mt M12 2222 (i_cV 175 0 8 2225) := sd_cV2 e175 cal175 q1432 q1433 (rfl : gd_cl 8 = some _) q1434 dL_law_2222 rfl
theorem r12_2225 : Sd gd_mt M12 2225 (i_msk [true, true, true, true, true, true, true, false] (i_ild 5 2227)) := sd_msk _ (sd_iload dL_law_2225 rfl)
theorem r12_2227 : Sd gd_mt M12 2227 (i_iceq 2232 2230) := sd_iceq dL_law_2227 (by decide) rfl
theorem r12_2230 : Sd gd_mt M12 2230 (i_psh (.int 0) 2231) := sd_iconst dL_law_2230 (by decide) rfl
theorem r12_2231 : Sd gd_mt M12 2231 (i_zret) := sd_zret rfl dL_law_2231
theorem r12_2232 : Sd gd_mt M12 2232 (i_ild 5 2234) := sd_iload dL_law_2232 rfl
theorem r12_2234 : Sd gd_mt M12 2234 (i_ifne 2249 2237) := sd_ifne dL_law_2234 (by decide) rfl
theorem r12_2237 : Sd gd_mt M12 2237 (i_ald 3 2238) := sd_aload_n dL_law_2237 rfl rfl
theorem r12_2238 : Sd gd_mt M12 2238 (i_psh (.int 0) 2239) := sd_iconst dL_law_2238 (by decide) rfl
theorem r12_2239 : Sd gd_mt M12 2239 (i_aldJ 2240) := sd_lald dL_law_2239 rfl
theorem r12_2240 : Sd gd_mt M12 2240 (i_ild 6 2242) := sd_iload dL_law_2240 rfl
theorem r12_2242 : Sd gd_mt M12 2242 (i_i2l 2243) := sd_i2l dL_law_2242 rfl
theorem r12_2243 : Sd gd_mt M12 2243 (i_lcmp 2244) := sd_lcmp dL_law_2243 rfl
theorem r12_2244 : Sd gd_mt M12 2244 (i_ifeq 2249 2247) := sd_ifeq dL_law_2244 (by decide) rfl
theorem r12_2247 : Sd gd_mt M12 2247 (i_psh (.int 0) 2248) := sd_iconst dL_law_2247 (by decide) rfl
theorem r12_2248 : Sd gd_mt M12 2248 (i_zret) := sd_zret rfl dL_law_2248
theorem r12_2249 : Sd gd_mt M12 2249 (i_msk [true, true, true, true, true, false, false, false] (i_goto 2328)) := sd_msk _ (sd_goto dL_law_2249 (by decide))
theorem r12_2252 : Sd gd_mt M12 2252 (i_ald 1 2253) := sd_aload_n dL_law_2252 rfl rfl
theorem r12_2253 : Sd gd_mt M12 2253 (i_cV 48 0 1 2256) := sd_cV2 e48 cal48 q480 q481 (rfl : gd_cl 1 = some _) q482 dL_law_2253 rfl
theorem r12_2256 : Sd gd_mt M12 2256 (i_msk [true, true, true, true, true, false, false, false] (i_ald 2 2257)) := sd_msk _ (sd_aload_n dL_law_2256 rfl rfl)
theorem r12_2257 : Sd gd_mt M12 2257 (i_cV 278 0 8 2260) := sd_cV2 e278 cal278 q2029 q2030 (rfl : gd_cl 8 = some _) q2031 dL_law_2257 rfl
theorem r12_2260 : Sd gd_mt M12 2260 (i_msk [true, true, true, true, true, false, false, false] (i_iceq 2328 2263)) := sd_msk _ (sd_iceq dL_law_2260 (by decide) rfl)
theorem r12_2263 : Sd gd_mt M12 2263 (i_psh (.int 0) 2264) := sd_iconst dL_law_2263 (by decide) rfl
theorem r12_2264 : Sd gd_mt M12 2264 (i_zret) := sd_zret rfl dL_law_2264
theorem r12_2265 : Sd gd_mt M12 2265 (i_ald 1 2266) := sd_aload_n dL_law_2265 rfl rfl
theorem r12_2266 : Sd gd_mt M12 2266 (i_cV 49 0 1 2269) := sd_cV2 e49 cal49 q492 q493 (rfl : gd_cl 1 = some _) q494 dL_law_2266 rfl
theorem r12_2269 : Sd gd_mt M12 2269 (i_msk [true, true, true, true, true, false, false, false] (i_ald 2 2270)) := sd_msk _ (sd_aload_n dL_law_2269 rfl rfl)
theorem r12_2270 : Sd gd_mt M12 2270 (i_cV 281 0 8 2273) := sd_cV2 e281 cal281 q2041 q2042 (rfl : gd_cl 8 = some _) q2043 dL_law_2270 rfl
theorem r12_2273 : Sd gd_mt M12 2273 (i_msk [true, true, true, true, true, false, false, false] (i_iceq 2328 2276)) := sd_msk _ (sd_iceq dL_law_2273 (by decide) rfl)
theorem r12_2276 : Sd gd_mt M12 2276 (i_psh (.int 0) 2277) := sd_iconst dL_law_2276 (by decide) rfl
def cl12_28 : List (Nat × gd_I) := [(2197, i_ald 0 2198), (2198, i_ild 4 2200), (2200, i_psh (.int 4) 2201), (2201, i_iadd 2202), (2202, i_aldF 41 2203), (2203, i_ald 0 2204), (2204, i_ild 4 2206), (2206, i_psh (.int 5) 2207), (2207, i_iadd 2208), (2208, i_aldF 41 2209), (2209, i_ald 0 2210), (2210, i_ild 4 2212), (2212, i_psh (.int 6) 2214), (2214, i_iadd 2215), (2215, i_aldF 41 2216), (2216, i_cV 277 6 8 2219), (2219, i_msk [true, true, true, true, true, true, false, false] (i_ist 6 2221)), (2221, i_ald 2 2222), (2222, i_cV 175 0 8 2225), (2225, i_msk [true, true, true, true, true, true, true, false] (i_ild 5 2227)), (2227, i_iceq 2232 2230), (2230, i_psh (.int 0) 2231), (2231, i_zret), (2232, i_ild 5 2234), (2234, i_ifne 2249 2237), (2237, i_ald 3 2238), (2238, i_psh (.int 0) 2239), (2239, i_aldJ 2240), (2240, i_ild 6 2242), (2242, i_i2l 2243), (2243, i_lcmp 2244), (2244, i_ifeq 2249 2247), (2247, i_psh (.int 0) 2248), (2248, i_zret), (2249, i_msk [true, true, true, true, true, false, false, false] (i_goto 2328)), (2252, i_ald 1 2253), (2253, i_cV 48 0 1 2256), (2256, i_msk [true, true, true, true, true, false, false, false] (i_ald 2 2257)), (2257, i_cV 278 0 8 2260), (2260, i_msk [true, true, true, true, true, false, false, false] (i_iceq 2328 2263)), (2263, i_psh (.int 0) 2264), (2264, i_zret), (2265, i_ald 1 2266), (2266, i_cV 49 0 1 2269), (2269, i_msk [true, true, true, true, true, false, false, false] (i_ald 2 2270)), (2270, i_cV 281 0 8 2273), (2273, i_msk [true, true, true, true, true, false, false, false] (i_iceq 2328 2276)), (2276, i_psh (.int 0) 2277)]
theorem cs12_28 : ∀ q ∈ cl12_28, Sd gd_mt M12 q.1 q.2 := gd_ac r12_2197 (gd_ac r12_2198 (gd_ac r12_2200 (gd_ac r12_2201 (gd_ac r12_2202 (gd_ac r12_2203 (gd_ac r12_2204 (gd_ac r12_2206 (gd_ac r12_2207 (gd_ac r12_2208 (gd_ac r12_2209 (gd_ac r12_2210 (gd_ac r12_2212 (gd_ac r12_2214 (gd_ac r12_2215 (gd_ac r12_2216 (gd_ac r12_2219 (gd_ac r12_2221 (gd_ac r12_2222 (gd_ac r12_2225 (gd_ac r12_2227 (gd_ac r12_2230 (gd_ac r12_2231 (gd_ac r12_2232 (gd_ac r12_2234 (gd_ac r12_2237 (gd_ac r12_2238 (gd_ac r12_2239 (gd_ac r12_2240 (gd_ac r12_2242 (gd_ac r12_2243 (gd_ac r12_2244 (gd_ac r12_2247 (gd_ac r12_2248 (gd_ac r12_2249 (gd_ac r12_2252 (gd_ac r12_2253 (gd_ac r12_2256 (gd_ac r12_2257 (gd_ac r12_2260 (gd_ac r12_2263 (gd_ac r12_2264 (gd_ac r12_2265 (gd_ac r12_2266 (gd_ac r12_2269 (gd_ac r12_2270 (gd_ac r12_2273 (gd_ac r12_2276 (gd_an))))))))))))))))))))))))))))))))))))))))))))))))
theorem r12_2277 : Sd gd_mt M12 2277 (i_zret) := sd_zret rfl dL_law_2277
theorem r12_2278 : Sd gd_mt M12 2278 (i_ald 1 2279) := sd_aload_n dL_law_2278 rfl rfl
theorem r12_2279 : Sd gd_mt M12 2279 (i_ald 0 2280) := sd_aload_n dL_law_2279 rfl rfl
theorem r12_2280 : Sd gd_mt M12 2280 (i_ild 4 2282) := sd_iload dL_law_2280 rfl
theorem r12_2282 : Sd gd_mt M12 2282 (i_psh (.int 1) 2283) := sd_iconst dL_law_2282 (by decide) rfl
theorem r12_2283 : Sd gd_mt M12 2283 (i_iadd 2284) := sd_iadd dL_law_2283 rfl
theorem r12_2284 : Sd gd_mt M12 2284 (i_aldF 41 2285) := sd_ialdF dL_law_2284 rfl
theorem r12_2285 : Sd gd_mt M12 2285 (i_cV 50 1 1 2288) := sd_cV2 e50 cal50 q496 q497 (rfl : gd_cl 1 = some _) q498 dL_law_2285 rfl
theorem r12_2288 : Sd gd_mt M12 2288 (i_msk [true, true, true, true, true, false, false, false] (i_ald 2 2289)) := sd_msk _ (sd_aload_n dL_law_2288 rfl rfl)
theorem r12_2289 : Sd gd_mt M12 2289 (i_ald 0 2290) := sd_aload_n dL_law_2289 rfl rfl
theorem r12_2290 : Sd gd_mt M12 2290 (i_ild 4 2292) := sd_iload dL_law_2290 rfl
theorem r12_2292 : Sd gd_mt M12 2292 (i_psh (.int 1) 2293) := sd_iconst dL_law_2292 (by decide) rfl
theorem r12_2293 : Sd gd_mt M12 2293 (i_iadd 2294) := sd_iadd dL_law_2293 rfl
theorem r12_2294 : Sd gd_mt M12 2294 (i_aldF 41 2295) := sd_ialdF dL_law_2294 rfl
theorem r12_2295 : Sd gd_mt M12 2295 (i_cV 282 1 8 2298) := sd_cV2 e282 cal282 q2045 q2046 (rfl : gd_cl 8 = some _) q2047 dL_law_2295 rfl
theorem r12_2298 : Sd gd_mt M12 2298 (i_msk [true, true, true, true, true, false, false, false] (i_iceq 2328 2301)) := sd_msk _ (sd_iceq dL_law_2298 (by decide) rfl)
theorem r12_2301 : Sd gd_mt M12 2301 (i_psh (.int 0) 2302) := sd_iconst dL_law_2301 (by decide) rfl
theorem r12_2302 : Sd gd_mt M12 2302 (i_zret) := sd_zret rfl dL_law_2302
theorem r12_2303 : Sd gd_mt M12 2303 (i_ald 1 2304) := sd_aload_n dL_law_2303 rfl rfl
theorem r12_2304 : Sd gd_mt M12 2304 (i_ald 0 2305) := sd_aload_n dL_law_2304 rfl rfl
theorem r12_2305 : Sd gd_mt M12 2305 (i_ild 4 2307) := sd_iload dL_law_2305 rfl
theorem r12_2307 : Sd gd_mt M12 2307 (i_psh (.int 1) 2308) := sd_iconst dL_law_2307 (by decide) rfl
theorem r12_2308 : Sd gd_mt M12 2308 (i_iadd 2309) := sd_iadd dL_law_2308 rfl
theorem r12_2309 : Sd gd_mt M12 2309 (i_aldF 41 2310) := sd_ialdF dL_law_2309 rfl
theorem r12_2310 : Sd gd_mt M12 2310 (i_cV 51 1 1 2313) := sd_cV2 e51 cal51 q500 q501 (rfl : gd_cl 1 = some _) q502 dL_law_2310 rfl
theorem r12_2313 : Sd gd_mt M12 2313 (i_msk [true, true, true, true, true, false, false, false] (i_ald 2 2314)) := sd_msk _ (sd_aload_n dL_law_2313 rfl rfl)
theorem r12_2314 : Sd gd_mt M12 2314 (i_ald 0 2315) := sd_aload_n dL_law_2314 rfl rfl
theorem r12_2315 : Sd gd_mt M12 2315 (i_ild 4 2317) := sd_iload dL_law_2315 rfl
theorem r12_2317 : Sd gd_mt M12 2317 (i_psh (.int 1) 2318) := sd_iconst dL_law_2317 (by decide) rfl
theorem r12_2318 : Sd gd_mt M12 2318 (i_iadd 2319) := sd_iadd dL_law_2318 rfl
theorem r12_2319 : Sd gd_mt M12 2319 (i_aldF 41 2320) := sd_ialdF dL_law_2319 rfl
theorem r12_2320 : Sd gd_mt M12 2320 (i_cV 283 1 8 2323) := sd_cV2 e283 cal283 q2049 q2050 (rfl : gd_cl 8 = some _) q2051 dL_law_2320 rfl
theorem r12_2323 : Sd gd_mt M12 2323 (i_msk [true, true, true, true, true, false, false, false] (i_iceq 2328 2326)) := sd_msk _ (sd_iceq dL_law_2323 (by decide) rfl)
theorem r12_2326 : Sd gd_mt M12 2326 (i_psh (.int 0) 2327) := sd_iconst dL_law_2326 (by decide) rfl
theorem r12_2327 : Sd gd_mt M12 2327 (i_zret) := sd_zret rfl dL_law_2327
theorem r12_2328 : Sd gd_mt M12 2328 (i_msk [true, true, true, true, true, false, false, false] (i_inc 4 9 2331)) := sd_msk _ (sd_iinc dL_law_2328 (by decide) (by decide) rfl)
theorem r12_2331 : Sd gd_mt M12 2331 (i_goto 23) := sd_goto dL_law_2331 (by decide)
theorem r12_2334 : Sd gd_mt M12 2334 (i_psh (.int 1) 2335) := sd_iconst dL_law_2334 (by decide) rfl
theorem r12_2335 : Sd gd_mt M12 2335 (i_zret) := sd_zret rfl dL_law_2335
def cl12_29 : List (Nat × gd_I) := [(2277, i_zret), (2278, i_ald 1 2279), (2279, i_ald 0 2280), (2280, i_ild 4 2282), (2282, i_psh (.int 1) 2283), (2283, i_iadd 2284), (2284, i_aldF 41 2285), (2285, i_cV 50 1 1 2288), (2288, i_msk [true, true, true, true, true, false, false, false] (i_ald 2 2289)), (2289, i_ald 0 2290), (2290, i_ild 4 2292), (2292, i_psh (.int 1) 2293), (2293, i_iadd 2294), (2294, i_aldF 41 2295), (2295, i_cV 282 1 8 2298), (2298, i_msk [true, true, true, true, true, false, false, false] (i_iceq 2328 2301)), (2301, i_psh (.int 0) 2302), (2302, i_zret), (2303, i_ald 1 2304), (2304, i_ald 0 2305), (2305, i_ild 4 2307), (2307, i_psh (.int 1) 2308), (2308, i_iadd 2309), (2309, i_aldF 41 2310), (2310, i_cV 51 1 1 2313), (2313, i_msk [true, true, true, true, true, false, false, false] (i_ald 2 2314)), (2314, i_ald 0 2315), (2315, i_ild 4 2317), (2317, i_psh (.int 1) 2318), (2318, i_iadd 2319), (2319, i_aldF 41 2320), (2320, i_cV 283 1 8 2323), (2323, i_msk [true, true, true, true, true, false, false, false] (i_iceq 2328 2326)), (2326, i_psh (.int 0) 2327), (2327, i_zret), (2328, i_msk [true, true, true, true, true, false, false, false] (i_inc 4 9 2331)), (2331, i_goto 23), (2334, i_psh (.int 1) 2335), (2335, i_zret)]
theorem cs12_29 : ∀ q ∈ cl12_29, Sd gd_mt M12 q.1 q.2 := gd_ac r12_2277 (gd_ac r12_2278 (gd_ac r12_2279 (gd_ac r12_2280 (gd_ac r12_2282 (gd_ac r12_2283 (gd_ac r12_2284 (gd_ac r12_2285 (gd_ac r12_2288 (gd_ac r12_2289 (gd_ac r12_2290 (gd_ac r12_2292 (gd_ac r12_2293 (gd_ac r12_2294 (gd_ac r12_2295 (gd_ac r12_2298 (gd_ac r12_2301 (gd_ac r12_2302 (gd_ac r12_2303 (gd_ac r12_2304 (gd_ac r12_2305 (gd_ac r12_2307 (gd_ac r12_2308 (gd_ac r12_2309 (gd_ac r12_2310 (gd_ac r12_2313 (gd_ac r12_2314 (gd_ac r12_2315 (gd_ac r12_2317 (gd_ac r12_2318 (gd_ac r12_2319 (gd_ac r12_2320 (gd_ac r12_2323 (gd_ac r12_2326 (gd_ac r12_2327 (gd_ac r12_2328 (gd_ac r12_2331 (gd_ac r12_2334 (gd_ac r12_2335 (gd_an)))))))))))))))))))))))))))))))))))))))
def cd12 (pc : Nat) : gd_I := if pc < 232 then lkI cl12_0 pc else if pc < 296 then lkI cl12_1 pc else if pc < 376 then lkI cl12_2 pc else if pc < 451 then lkI cl12_3 pc else if pc < 532 then lkI cl12_4 pc else if pc < 606 then lkI cl12_5 pc else if pc < 677 then lkI cl12_6 pc else if pc < 755 then lkI cl12_7 pc else if pc < 820 then lkI cl12_8 pc else if pc < 884 then lkI cl12_9 pc else if pc < 958 then lkI cl12_10 pc else if pc < 1032 then lkI cl12_11 pc else if pc < 1105 then lkI cl12_12 pc else if pc < 1184 then lkI cl12_13 pc else if pc < 1263 then lkI cl12_14 pc else if pc < 1335 then lkI cl12_15 pc else if pc < 1406 then lkI cl12_16 pc else if pc < 1473 then lkI cl12_17 pc else if pc < 1540 then lkI cl12_18 pc else if pc < 1609 then lkI cl12_19 pc else if pc < 1688 then lkI cl12_20 pc else if pc < 1764 then lkI cl12_21 pc else if pc < 1838 then lkI cl12_22 pc else if pc < 1918 then lkI cl12_23 pc else if pc < 1993 then lkI cl12_24 pc else if pc < 2065 then lkI cl12_25 pc else if pc < 2136 then lkI cl12_26 pc else if pc < 2197 then lkI cl12_27 pc else if pc < 2277 then lkI cl12_28 pc else lkI cl12_29 pc
theorem cg12 : ∀ pc, Sd gd_mt M12 pc (cd12 pc) := by
  intro pc
  unfold cd12
  by_cases h0 : pc < 232
  · rw [if_pos h0]; exact sd_lk cs12_0 pc
  rw [if_neg h0]
  by_cases h1 : pc < 296
  · rw [if_pos h1]; exact sd_lk cs12_1 pc
  rw [if_neg h1]
  by_cases h2 : pc < 376
  · rw [if_pos h2]; exact sd_lk cs12_2 pc
  rw [if_neg h2]
  by_cases h3 : pc < 451
  · rw [if_pos h3]; exact sd_lk cs12_3 pc
  rw [if_neg h3]
  by_cases h4 : pc < 532
  · rw [if_pos h4]; exact sd_lk cs12_4 pc
  rw [if_neg h4]
  by_cases h5 : pc < 606
  · rw [if_pos h5]; exact sd_lk cs12_5 pc
  rw [if_neg h5]
  by_cases h6 : pc < 677
  · rw [if_pos h6]; exact sd_lk cs12_6 pc
  rw [if_neg h6]
  by_cases h7 : pc < 755
  · rw [if_pos h7]; exact sd_lk cs12_7 pc
  rw [if_neg h7]
  by_cases h8 : pc < 820
  · rw [if_pos h8]; exact sd_lk cs12_8 pc
  rw [if_neg h8]
  by_cases h9 : pc < 884
  · rw [if_pos h9]; exact sd_lk cs12_9 pc
  rw [if_neg h9]
  by_cases h10 : pc < 958
  · rw [if_pos h10]; exact sd_lk cs12_10 pc
  rw [if_neg h10]
  by_cases h11 : pc < 1032
  · rw [if_pos h11]; exact sd_lk cs12_11 pc
  rw [if_neg h11]
  by_cases h12 : pc < 1105
  · rw [if_pos h12]; exact sd_lk cs12_12 pc
  rw [if_neg h12]
  by_cases h13 : pc < 1184
  · rw [if_pos h13]; exact sd_lk cs12_13 pc
  rw [if_neg h13]
  by_cases h14 : pc < 1263
  · rw [if_pos h14]; exact sd_lk cs12_14 pc
  rw [if_neg h14]
  by_cases h15 : pc < 1335
  · rw [if_pos h15]; exact sd_lk cs12_15 pc
  rw [if_neg h15]
  by_cases h16 : pc < 1406
  · rw [if_pos h16]; exact sd_lk cs12_16 pc
  rw [if_neg h16]
  by_cases h17 : pc < 1473
  · rw [if_pos h17]; exact sd_lk cs12_17 pc
  rw [if_neg h17]
  by_cases h18 : pc < 1540
  · rw [if_pos h18]; exact sd_lk cs12_18 pc
  rw [if_neg h18]
  by_cases h19 : pc < 1609
  · rw [if_pos h19]; exact sd_lk cs12_19 pc
  rw [if_neg h19]
  by_cases h20 : pc < 1688
  · rw [if_pos h20]; exact sd_lk cs12_20 pc
  rw [if_neg h20]
  by_cases h21 : pc < 1764
  · rw [if_pos h21]; exact sd_lk cs12_21 pc
  rw [if_neg h21]
  by_cases h22 : pc < 1838
  · rw [if_pos h22]; exact sd_lk cs12_22 pc
  rw [if_neg h22]
  by_cases h23 : pc < 1918
  · rw [if_pos h23]; exact sd_lk cs12_23 pc
  rw [if_neg h23]
  by_cases h24 : pc < 1993
  · rw [if_pos h24]; exact sd_lk cs12_24 pc
  rw [if_neg h24]
  by_cases h25 : pc < 2065
  · rw [if_pos h25]; exact sd_lk cs12_25 pc
  rw [if_neg h25]
  by_cases h26 : pc < 2136
  · rw [if_pos h26]; exact sd_lk cs12_26 pc
  rw [if_neg h26]
  by_cases h27 : pc < 2197
  · rw [if_pos h27]; exact sd_lk cs12_27 pc
  rw [if_neg h27]
  by_cases h28 : pc < 2277
  · rw [if_pos h28]; exact sd_lk cs12_28 pc
  rw [if_neg h28]
  exact sd_lk cs12_29 pc

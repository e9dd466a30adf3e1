/-! ===== THE PROGRAM AS ONE ===== -/
set_option maxRecDepth 100000
def gd_cdl0 : List (Nat → gd_I) := [cd0, cd1, cd2, cd3, cd4, cd5, cd6, cd7, cd8, cd9, cd10, cd11, cd12, cd13, cd14, cd15, cd16, cd17, cd18, cd19, cd20, cd21, cd22, cd23, cd24, cd25, cd26, cd27, cd28, cd29, cd30, cd31]
def gd_cdl1 : List (Nat → gd_I) := [cd32, cd33, cd34, cd35, cd36, cd37, cd38, cd39, cd40, cd41, cd42, cd43, cd44, cd45, cd46, cd47, cd48, cd49, cd50, cd51, cd52, cd53, cd54, cd55, cd56, cd57, cd58, cd59, cd60, cd61, cd62, cd63]
def gd_cdl2 : List (Nat → gd_I) := [cd64, cd65, cd66, cd67, cd68, cd69, cd70, cd71, cd72, cd73, cd74, cd75, cd76, cd77, cd78, cd79, cd80, cd81, cd82, cd83, cd84, cd85, cd86, cd87, cd88, cd89, cd90, cd91, cd92, cd93, cd94, cd95]
def gd_cdl3 : List (Nat → gd_I) := [cd96, cd97, cd98, cd99, cd100, cd101, cd102, cd103, cd104, cd105, cd106, cd107, cd108, cd109, cd110, cd111, cd112, cd113, cd114, cd115, cd116, cd117, cd118, cd119, cd120, cd121, cd122, cd123, cd124, cd125, cd126, cd127]
def gd_cdl4 : List (Nat → gd_I) := [cd128, cd129, cd130, cd131, cd132, cd133, cd134, cd135, cd136, cd137, cd138, cd139, cd140, cd141, cd142, cd143, cd144, cd145, cd146, cd147, cd148, cd149, cd150, cd151, cd152, cd153, cd154, cd155, cd156, cd157, cd158, cd159]
def gd_cdl5 : List (Nat → gd_I) := [cd160, cd161, cd162, cd163, cd164, cd165, cd166, cd167, cd168, cd169, cd170, cd171, cd172, cd173, cd174, cd175, cd176, cd177, cd178, cd179, cd180, cd181, cd182, cd183, cd184, cd185, cd186, cd187, cd188, cd189, cd190, cd191]
def gd_cdl6 : List (Nat → gd_I) := [cd192, cd193, cd194, cd195, cd196, cd197, cd198, cd199, cd200, cd201, cd202, cd203, cd204, cd205, cd206, cd207, cd208, cd209, cd210, cd211, cd212, cd213, cd214, cd215, cd216, cd217, cd218, cd219, cd220, cd221, cd222, cd223]
def gd_cdl7 : List (Nat → gd_I) := [cd224, cd225, cd226, cd227, cd228, cd229, cd230, cd231, cd232, cd233, cd234, cd235, cd236, cd237, cd238, cd239, cd240, cd241, cd242, cd243, cd244, cd245, cd246, cd247, cd248, cd249, cd250, cd251, cd252, cd253, cd254, cd255]
def gd_cdl8 : List (Nat → gd_I) := [cd256, cd257, cd258, cd259, cd260, cd261, cd262, cd263, cd264, cd265, cd266, cd267, cd268, cd269, cd270, cd271, cd272, cd273, cd274, cd275, cd276, cd277, cd278, cd279, cd280, cd281, cd282, cd283, cd284, cd285, cd286, cd287]
def gd_cdl9 : List (Nat → gd_I) := [cd288]
def gd_no : Nat → gd_I := fun _ => i_stk
def gd_cd (k : Nat) : Nat → gd_I := if k < 32 then gd_cdl0.getD (k - 0) gd_no else if k < 64 then gd_cdl1.getD (k - 32) gd_no else if k < 96 then gd_cdl2.getD (k - 64) gd_no else if k < 128 then gd_cdl3.getD (k - 96) gd_no else if k < 160 then gd_cdl4.getD (k - 128) gd_no else if k < 192 then gd_cdl5.getD (k - 160) gd_no else if k < 224 then gd_cdl6.getD (k - 192) gd_no else if k < 256 then gd_cdl7.getD (k - 224) gd_no else if k < 288 then gd_cdl8.getD (k - 256) gd_no else if k < 320 then gd_cdl9.getD (k - 288) gd_no else gd_no
def AllSd (mt : Nat → gd_M) : List gd_M → List (Nat → gd_I) → Prop
  | [], [] => True
  | m :: ml, c :: cl => (∀ pc, Sd mt m pc (c pc)) ∧ AllSd mt ml cl
  | _, _ => False
theorem AllSd.get {mt : Nat → gd_M} {D : gd_M} : ∀ {ml : List gd_M} {cl : List (Nat → gd_I)}, AllSd mt ml cl → ∀ (j pc : Nat), Sd mt (ml.getD j D) pc (cl.getD j gd_no pc)
  | [], [], _, j, pc => sd_stk
  | m :: ml, c :: cl, h, 0, pc => h.1 pc
  | m :: ml, c :: cl, h, j + 1, pc => by
    simp only [List.getD_cons_succ]
    exact AllSd.get h.2 j pc
  | [], _ :: _, h, _, _ => h.elim
  | _ :: _, [], h, _, _ => h.elim
theorem gd_as_0 : AllSd gd_mt gd_ml0 gd_cdl0 := ⟨cg0, cg1, cg2, cg3, cg4, cg5, cg6, cg7, cg8, cg9, cg10, cg11, cg12, cg13, cg14, cg15, cg16, cg17, cg18, cg19, cg20, cg21, cg22, cg23, cg24, cg25, cg26, cg27, cg28, cg29, cg30, cg31, trivial⟩
theorem gd_as_1 : AllSd gd_mt gd_ml1 gd_cdl1 := ⟨cg32, cg33, cg34, cg35, cg36, cg37, cg38, cg39, cg40, cg41, cg42, cg43, cg44, cg45, cg46, cg47, cg48, cg49, cg50, cg51, cg52, cg53, cg54, cg55, cg56, cg57, cg58, cg59, cg60, cg61, cg62, cg63, trivial⟩
theorem gd_as_2 : AllSd gd_mt gd_ml2 gd_cdl2 := ⟨cg64, cg65, cg66, cg67, cg68, cg69, cg70, cg71, cg72, cg73, cg74, cg75, cg76, cg77, cg78, cg79, cg80, cg81, cg82, cg83, cg84, cg85, cg86, cg87, cg88, cg89, cg90, cg91, cg92, cg93, cg94, cg95, trivial⟩
theorem gd_as_3 : AllSd gd_mt gd_ml3 gd_cdl3 := ⟨cg96, cg97, cg98, cg99, cg100, cg101, cg102, cg103, cg104, cg105, cg106, cg107, cg108, cg109, cg110, cg111, cg112, cg113, cg114, cg115, cg116, cg117, cg118, cg119, cg120, cg121, cg122, cg123, cg124, cg125, cg126, cg127, trivial⟩
theorem gd_as_4 : AllSd gd_mt gd_ml4 gd_cdl4 := ⟨cg128, cg129, cg130, cg131, cg132, cg133, cg134, cg135, cg136, cg137, cg138, cg139, cg140, cg141, cg142, cg143, cg144, cg145, cg146, cg147, cg148, cg149, cg150, cg151, cg152, cg153, cg154, cg155, cg156, cg157, cg158, cg159, trivial⟩
theorem gd_as_5 : AllSd gd_mt gd_ml5 gd_cdl5 := ⟨cg160, cg161, cg162, cg163, cg164, cg165, cg166, cg167, cg168, cg169, cg170, cg171, cg172, cg173, cg174, cg175, cg176, cg177, cg178, cg179, cg180, cg181, cg182, cg183, cg184, cg185, cg186, cg187, cg188, cg189, cg190, cg191, trivial⟩
theorem gd_as_6 : AllSd gd_mt gd_ml6 gd_cdl6 := ⟨cg192, cg193, cg194, cg195, cg196, cg197, cg198, cg199, cg200, cg201, cg202, cg203, cg204, cg205, cg206, cg207, cg208, cg209, cg210, cg211, cg212, cg213, cg214, cg215, cg216, cg217, cg218, cg219, cg220, cg221, cg222, cg223, trivial⟩
theorem gd_as_7 : AllSd gd_mt gd_ml7 gd_cdl7 := ⟨cg224, cg225, cg226, cg227, cg228, cg229, cg230, cg231, cg232, cg233, cg234, cg235, cg236, cg237, cg238, cg239, cg240, cg241, cg242, cg243, cg244, cg245, cg246, cg247, cg248, cg249, cg250, cg251, cg252, cg253, cg254, cg255, trivial⟩
theorem gd_as_8 : AllSd gd_mt gd_ml8 gd_cdl8 := ⟨cg256, cg257, cg258, cg259, cg260, cg261, cg262, cg263, cg264, cg265, cg266, cg267, cg268, cg269, cg270, cg271, cg272, cg273, cg274, cg275, cg276, cg277, cg278, cg279, cg280, cg281, cg282, cg283, cg284, cg285, cg286, cg287, trivial⟩
theorem gd_as_9 : AllSd gd_mt gd_ml9 gd_cdl9 := ⟨cg288, trivial⟩
theorem gd_cd_ok (k pc : Nat) : Sd gd_mt (gd_mt k) pc (gd_cd k pc) := by
  unfold gd_mt gd_cd
  by_cases h0 : k < 32
  · rw [if_pos h0, if_pos h0]; exact gd_as_0.get _ pc
  · rw [if_neg h0, if_neg h0]
    by_cases h1 : k < 64
    · rw [if_pos h1, if_pos h1]; exact gd_as_1.get _ pc
    · rw [if_neg h1, if_neg h1]
      by_cases h2 : k < 96
      · rw [if_pos h2, if_pos h2]; exact gd_as_2.get _ pc
      · rw [if_neg h2, if_neg h2]
        by_cases h3 : k < 128
        · rw [if_pos h3, if_pos h3]; exact gd_as_3.get _ pc
        · rw [if_neg h3, if_neg h3]
          by_cases h4 : k < 160
          · rw [if_pos h4, if_pos h4]; exact gd_as_4.get _ pc
          · rw [if_neg h4, if_neg h4]
            by_cases h5 : k < 192
            · rw [if_pos h5, if_pos h5]; exact gd_as_5.get _ pc
            · rw [if_neg h5, if_neg h5]
              by_cases h6 : k < 224
              · rw [if_pos h6, if_pos h6]; exact gd_as_6.get _ pc
              · rw [if_neg h6, if_neg h6]
                by_cases h7 : k < 256
                · rw [if_pos h7, if_pos h7]; exact gd_as_7.get _ pc
                · rw [if_neg h7, if_neg h7]
                  by_cases h8 : k < 288
                  · rw [if_pos h8, if_pos h8]; exact gd_as_8.get _ pc
                  · rw [if_neg h8, if_neg h8]
                    by_cases h9 : k < 320
                    · rw [if_pos h9, if_pos h9]; exact gd_as_9.get _ pc
                    · rw [if_neg h9, if_neg h9]
                      exact sd_stk
def hlk : List (Nat × List gd_hr) → Nat → List gd_hr
  | [], _ => []
  | (j, r) :: l, k => if k = j then r else hlk l k
def gd_hl : List (Nat × List gd_hr) := [(13, [((0, 9, 12, 13), "java/lang/IllegalArgumentException", [25], [])]),
  (14, [((0, 9, 12, 13), "java/lang/IllegalArgumentException", [25], [])]),
  (15, [((0, 9, 12, 13), "java/lang/IllegalArgumentException", [25], [])]),
  (16, [((0, 9, 12, 13), "java/lang/IllegalArgumentException", [25], [])]),
  (17, [((0, 9, 12, 13), "java/lang/IllegalArgumentException", [25], [])]),
  (18, [((0, 10, 13, 31), "java/util/NoSuchElementException", [24], [25]), ((0, 10, 17, 13), "java/lang/IllegalArgumentException", [25], [])]),
  (19, [((0, 10, 13, 31), "java/util/NoSuchElementException", [24], [25]), ((0, 10, 17, 13), "java/lang/IllegalArgumentException", [25], [])]),
  (20, [((0, 9, 12, 31), "java/util/NoSuchElementException", [24], [])]),
  (21, [((0, 22, 25, 13), "java/lang/IllegalArgumentException", [25], [])]),
  (22, [((0, 10, 13, 13), "java/lang/IllegalArgumentException", [25], [])]),
  (23, [((0, 10, 13, 31), "java/util/NoSuchElementException", [24], [25]), ((0, 10, 17, 13), "java/lang/IllegalArgumentException", [25], [])]),
  (24, [((0, 10, 13, 31), "java/util/NoSuchElementException", [24], [25]), ((0, 10, 17, 13), "java/lang/IllegalArgumentException", [25], [])]),
  (25, [((0, 9, 12, 31), "java/util/NoSuchElementException", [24], [])]),
  (26, [((0, 9, 12, 13), "java/lang/IllegalArgumentException", [25], [])]),
  (27, [((0, 10, 13, 31), "java/util/NoSuchElementException", [24], [25]), ((0, 10, 17, 13), "java/lang/IllegalArgumentException", [25], [])]),
  (28, [((0, 10, 13, 31), "java/util/NoSuchElementException", [24], [25]), ((0, 10, 17, 13), "java/lang/IllegalArgumentException", [25], [])]),
  (29, [((0, 13, 16, 13), "java/lang/IllegalArgumentException", [25], [])]),
  (30, [((0, 12, 15, 13), "java/lang/IllegalArgumentException", [25], [])]),
  (31, [((0, 12, 15, 31), "java/util/NoSuchElementException", [24], [25]), ((0, 12, 19, 13), "java/lang/IllegalArgumentException", [25], [])]),
  (32, [((0, 9, 12, 13), "java/lang/IllegalArgumentException", [25], [])]),
  (33, [((0, 9, 12, 13), "java/lang/IllegalArgumentException", [25], [])]),
  (34, [((0, 9, 12, 13), "java/lang/IllegalArgumentException", [25], [])]),
  (35, [((0, 9, 12, 31), "java/util/NoSuchElementException", [24], [])]),
  (36, [((0, 9, 12, 31), "java/util/NoSuchElementException", [24], [])]),
  (37, [((0, 9, 12, 13), "java/lang/IllegalArgumentException", [25], [])]),
  (38, [((0, 9, 12, 13), "java/lang/IllegalArgumentException", [25], [])]),
  (39, [((0, 14, 17, 13), "java/lang/IllegalArgumentException", [25], [])]),
  (40, [((0, 18, 21, 13), "java/lang/IllegalArgumentException", [25], [])]),
  (52, [((10, 29, 32, 124), "GrowingDoor$Wrong", [11], [])]),
  (56, [((16, 38, 41, 124), "GrowingDoor$Wrong", [11], [])]),
  (57, [((43, 63, 66, 124), "GrowingDoor$Wrong", [11], [])]),
  (58, [((28, 147, 150, 124), "GrowingDoor$Wrong", [11], [])])]
def gd_hd (k : Nat) : List gd_hr := hlk gd_hl k
theorem hlk_mem : ∀ {l : List (Nat × List gd_hr)} {k : Nat}, (∃ r, (k, r) ∈ l ∧ hlk l k = r) ∨ hlk l k = []
  | [], k => Or.inr rfl
  | (j, r) :: l, k => by
    unfold hlk
    split
    next e => exact Or.inl ⟨r, by rw [e]; exact List.mem_cons_self, rfl⟩
    next =>
      rcases @hlk_mem l k with ⟨r', h1, h2⟩ | h
      · exact Or.inl ⟨r', List.mem_cons_of_mem _ h1, h2⟩
      · exact Or.inr h
/-- what a row of handlers asks, of its method's class -/
def gd_hro (own : String) (r : gd_hr) : Prop := r.1.2.2.2 ≠ 0 ∧ Cond.classLink own r.1.2.2.2 r.2.1 ∈ lw_all ∧ (∀ t ∈ r.2.2.1, ∃ w, gd_cl t = some w ∧ Cond.castable w.1 r.2.1 ∈ lw_tbl) ∧ ∀ t ∈ r.2.2.2, ∃ w, gd_cl t = some w ∧ ∀ G s, KN G s → va_Nc w.1 r.2.1 s
theorem gd_hr0 : gd_hro "GrowingDoorLaw" ((0, 9, 12, 13), "java/lang/IllegalArgumentException", [25], []) := ⟨by decide, q507, (fun t h => by rw [List.mem_singleton.mp h]; exact ⟨_, rfl, q519⟩), (fun t h => nomatch h)⟩
theorem gd_hr1 : gd_hro "GrowingDoorLaw" ((0, 10, 13, 31), "java/util/NoSuchElementException", [24], [25]) := ⟨by decide, q1187, (fun t h => by rw [List.mem_singleton.mp h]; exact ⟨_, rfl, q1202⟩), (fun t h => by rw [List.mem_singleton.mp h]; exact ⟨_, rfl, fun G s h => h.2.2.2.2.2.2.2.2.2.2.2.2.2.2⟩)⟩
theorem gd_hr2 : gd_hro "GrowingDoorLaw" ((0, 10, 17, 13), "java/lang/IllegalArgumentException", [25], []) := ⟨by decide, q507, (fun t h => by rw [List.mem_singleton.mp h]; exact ⟨_, rfl, q519⟩), (fun t h => nomatch h)⟩
theorem gd_hr3 : gd_hro "GrowingDoorLaw" ((0, 9, 12, 31), "java/util/NoSuchElementException", [24], []) := ⟨by decide, q1187, (fun t h => by rw [List.mem_singleton.mp h]; exact ⟨_, rfl, q1202⟩), (fun t h => nomatch h)⟩
theorem gd_hr4 : gd_hro "GrowingDoorLaw" ((0, 22, 25, 13), "java/lang/IllegalArgumentException", [25], []) := ⟨by decide, q507, (fun t h => by rw [List.mem_singleton.mp h]; exact ⟨_, rfl, q519⟩), (fun t h => nomatch h)⟩
theorem gd_hr5 : gd_hro "GrowingDoorLaw" ((0, 10, 13, 13), "java/lang/IllegalArgumentException", [25], []) := ⟨by decide, q507, (fun t h => by rw [List.mem_singleton.mp h]; exact ⟨_, rfl, q519⟩), (fun t h => nomatch h)⟩
theorem gd_hr6 : gd_hro "GrowingDoorLaw" ((0, 13, 16, 13), "java/lang/IllegalArgumentException", [25], []) := ⟨by decide, q507, (fun t h => by rw [List.mem_singleton.mp h]; exact ⟨_, rfl, q519⟩), (fun t h => nomatch h)⟩
theorem gd_hr7 : gd_hro "GrowingDoorLaw" ((0, 12, 15, 13), "java/lang/IllegalArgumentException", [25], []) := ⟨by decide, q507, (fun t h => by rw [List.mem_singleton.mp h]; exact ⟨_, rfl, q519⟩), (fun t h => nomatch h)⟩
theorem gd_hr8 : gd_hro "GrowingDoorLaw" ((0, 12, 15, 31), "java/util/NoSuchElementException", [24], [25]) := ⟨by decide, q1187, (fun t h => by rw [List.mem_singleton.mp h]; exact ⟨_, rfl, q1202⟩), (fun t h => by rw [List.mem_singleton.mp h]; exact ⟨_, rfl, fun G s h => h.2.2.2.2.2.2.2.2.2.2.2.2.2.2⟩)⟩
theorem gd_hr9 : gd_hro "GrowingDoorLaw" ((0, 12, 19, 13), "java/lang/IllegalArgumentException", [25], []) := ⟨by decide, q507, (fun t h => by rw [List.mem_singleton.mp h]; exact ⟨_, rfl, q519⟩), (fun t h => nomatch h)⟩
theorem gd_hr10 : gd_hro "GrowingDoorLaw" ((0, 14, 17, 13), "java/lang/IllegalArgumentException", [25], []) := ⟨by decide, q507, (fun t h => by rw [List.mem_singleton.mp h]; exact ⟨_, rfl, q519⟩), (fun t h => nomatch h)⟩
theorem gd_hr11 : gd_hro "GrowingDoorLaw" ((0, 18, 21, 13), "java/lang/IllegalArgumentException", [25], []) := ⟨by decide, q507, (fun t h => by rw [List.mem_singleton.mp h]; exact ⟨_, rfl, q519⟩), (fun t h => nomatch h)⟩
theorem gd_hr12 : gd_hro "GrowingDoor" ((10, 29, 32, 124), "GrowingDoor$Wrong", [11], []) := ⟨by decide, q512, (fun t h => by rw [List.mem_singleton.mp h]; exact ⟨_, rfl, q714⟩), (fun t h => nomatch h)⟩
theorem gd_hr13 : gd_hro "GrowingDoor" ((16, 38, 41, 124), "GrowingDoor$Wrong", [11], []) := ⟨by decide, q512, (fun t h => by rw [List.mem_singleton.mp h]; exact ⟨_, rfl, q714⟩), (fun t h => nomatch h)⟩
theorem gd_hr14 : gd_hro "GrowingDoor" ((43, 63, 66, 124), "GrowingDoor$Wrong", [11], []) := ⟨by decide, q512, (fun t h => by rw [List.mem_singleton.mp h]; exact ⟨_, rfl, q714⟩), (fun t h => nomatch h)⟩
theorem gd_hr15 : gd_hro "GrowingDoor" ((28, 147, 150, 124), "GrowingDoor$Wrong", [11], []) := ⟨by decide, q512, (fun t h => by rw [List.mem_singleton.mp h]; exact ⟨_, rfl, q714⟩), (fun t h => nomatch h)⟩
theorem gd_hl_ok : ∀ q ∈ gd_hl, ∀ r ∈ q.2, gd_hro (gd_mt q.1).1.cls r := by
  unfold gd_hl
  refine List.forall_mem_cons.mpr ⟨List.forall_mem_cons.mpr ⟨gd_hr0, (fun r h => nomatch h)⟩,
    List.forall_mem_cons.mpr ⟨List.forall_mem_cons.mpr ⟨gd_hr0, (fun r h => nomatch h)⟩,
    List.forall_mem_cons.mpr ⟨List.forall_mem_cons.mpr ⟨gd_hr0, (fun r h => nomatch h)⟩,
    List.forall_mem_cons.mpr ⟨List.forall_mem_cons.mpr ⟨gd_hr0, (fun r h => nomatch h)⟩,
    List.forall_mem_cons.mpr ⟨List.forall_mem_cons.mpr ⟨gd_hr0, (fun r h => nomatch h)⟩,
    List.forall_mem_cons.mpr ⟨List.forall_mem_cons.mpr ⟨gd_hr1, List.forall_mem_cons.mpr ⟨gd_hr2, (fun r h => nomatch h)⟩⟩,
    List.forall_mem_cons.mpr ⟨List.forall_mem_cons.mpr ⟨gd_hr1, List.forall_mem_cons.mpr ⟨gd_hr2, (fun r h => nomatch h)⟩⟩,
    List.forall_mem_cons.mpr ⟨List.forall_mem_cons.mpr ⟨gd_hr3, (fun r h => nomatch h)⟩,
    List.forall_mem_cons.mpr ⟨List.forall_mem_cons.mpr ⟨gd_hr4, (fun r h => nomatch h)⟩,
    List.forall_mem_cons.mpr ⟨List.forall_mem_cons.mpr ⟨gd_hr5, (fun r h => nomatch h)⟩,
    List.forall_mem_cons.mpr ⟨List.forall_mem_cons.mpr ⟨gd_hr1, List.forall_mem_cons.mpr ⟨gd_hr2, (fun r h => nomatch h)⟩⟩,
    List.forall_mem_cons.mpr ⟨List.forall_mem_cons.mpr ⟨gd_hr1, List.forall_mem_cons.mpr ⟨gd_hr2, (fun r h => nomatch h)⟩⟩,
    List.forall_mem_cons.mpr ⟨List.forall_mem_cons.mpr ⟨gd_hr3, (fun r h => nomatch h)⟩,
    List.forall_mem_cons.mpr ⟨List.forall_mem_cons.mpr ⟨gd_hr0, (fun r h => nomatch h)⟩,
    List.forall_mem_cons.mpr ⟨List.forall_mem_cons.mpr ⟨gd_hr1, List.forall_mem_cons.mpr ⟨gd_hr2, (fun r h => nomatch h)⟩⟩,
    List.forall_mem_cons.mpr ⟨List.forall_mem_cons.mpr ⟨gd_hr1, List.forall_mem_cons.mpr ⟨gd_hr2, (fun r h => nomatch h)⟩⟩,
    List.forall_mem_cons.mpr ⟨List.forall_mem_cons.mpr ⟨gd_hr6, (fun r h => nomatch h)⟩,
    List.forall_mem_cons.mpr ⟨List.forall_mem_cons.mpr ⟨gd_hr7, (fun r h => nomatch h)⟩,
    List.forall_mem_cons.mpr ⟨List.forall_mem_cons.mpr ⟨gd_hr8, List.forall_mem_cons.mpr ⟨gd_hr9, (fun r h => nomatch h)⟩⟩,
    List.forall_mem_cons.mpr ⟨List.forall_mem_cons.mpr ⟨gd_hr0, (fun r h => nomatch h)⟩,
    List.forall_mem_cons.mpr ⟨List.forall_mem_cons.mpr ⟨gd_hr0, (fun r h => nomatch h)⟩,
    List.forall_mem_cons.mpr ⟨List.forall_mem_cons.mpr ⟨gd_hr0, (fun r h => nomatch h)⟩,
    List.forall_mem_cons.mpr ⟨List.forall_mem_cons.mpr ⟨gd_hr3, (fun r h => nomatch h)⟩,
    List.forall_mem_cons.mpr ⟨List.forall_mem_cons.mpr ⟨gd_hr3, (fun r h => nomatch h)⟩,
    List.forall_mem_cons.mpr ⟨List.forall_mem_cons.mpr ⟨gd_hr0, (fun r h => nomatch h)⟩,
    List.forall_mem_cons.mpr ⟨List.forall_mem_cons.mpr ⟨gd_hr0, (fun r h => nomatch h)⟩,
    List.forall_mem_cons.mpr ⟨List.forall_mem_cons.mpr ⟨gd_hr10, (fun r h => nomatch h)⟩,
    List.forall_mem_cons.mpr ⟨List.forall_mem_cons.mpr ⟨gd_hr11, (fun r h => nomatch h)⟩,
    List.forall_mem_cons.mpr ⟨List.forall_mem_cons.mpr ⟨gd_hr12, (fun r h => nomatch h)⟩,
    List.forall_mem_cons.mpr ⟨List.forall_mem_cons.mpr ⟨gd_hr13, (fun r h => nomatch h)⟩,
    List.forall_mem_cons.mpr ⟨List.forall_mem_cons.mpr ⟨gd_hr14, (fun r h => nomatch h)⟩,
    List.forall_mem_cons.mpr ⟨List.forall_mem_cons.mpr ⟨gd_hr15, (fun r h => nomatch h)⟩,
    (fun r h => nomatch h)⟩⟩⟩⟩⟩⟩⟩⟩⟩⟩⟩⟩⟩⟩⟩⟩⟩⟩⟩⟩⟩⟩⟩⟩⟩⟩⟩⟩⟩⟩⟩⟩
theorem gd_hh_lt : ∀ k, k < 289 → (gd_mt k).2.2.2.2 = (gd_hd k).map (fun r => r.1) := by decide +kernel
theorem gd_mt_ge {k : Nat} (h : 289 ≤ k) : gd_mt k = M0 := by
  rcases Nat.lt_or_ge k 320 with q | q
  · unfold gd_mt
    rw [if_neg (by omega : ¬ k < 32), if_neg (by omega : ¬ k < 64), if_neg (by omega : ¬ k < 96), if_neg (by omega : ¬ k < 128), if_neg (by omega : ¬ k < 160), if_neg (by omega : ¬ k < 192), if_neg (by omega : ¬ k < 224), if_neg (by omega : ¬ k < 256), if_neg (by omega : ¬ k < 288)]
    rw [if_pos q]
    rw [List.getD_eq_getElem?_getD, List.getElem?_eq_none (by show gd_ml9.length ≤ _; have : gd_ml9.length = 1 := rfl; omega)]
    rfl
  · unfold gd_mt
    rw [if_neg (by omega : ¬ k < 32), if_neg (by omega : ¬ k < 64), if_neg (by omega : ¬ k < 96), if_neg (by omega : ¬ k < 128), if_neg (by omega : ¬ k < 160), if_neg (by omega : ¬ k < 192), if_neg (by omega : ¬ k < 224), if_neg (by omega : ¬ k < 256), if_neg (by omega : ¬ k < 288), if_neg (by omega : ¬ k < 320)]
theorem gd_hd_ge {k : Nat} (h : 289 ≤ k) : gd_hd k = [] := by
  rcases @hlk_mem gd_hl k with ⟨r, h1, h2⟩ | h2
  · have : ∀ q ∈ gd_hl, q.1 < 289 := by decide +kernel
    have := this _ h1
    omega
  · exact h2
theorem gd_hd_ok (k : Nat) : gd_hok (gd_mt k) (gd_hd k) := by
  refine ⟨?_, fun r hr => ?_⟩
  · rcases Nat.lt_or_ge k 289 with q | q
    · exact gd_hh_lt k q
    · rw [gd_mt_ge q, gd_hd_ge q]; rfl
  · rcases @hlk_mem gd_hl k with ⟨rs, h1, h2⟩ | h2
    · have h3 : gd_hd k = rs := h2
      rw [h3] at hr
      exact gd_hl_ok _ h1 r hr
    · have h3 : gd_hd k = [] := h2
      rw [h3] at hr
      cases hr
def gd_P0 : gd_P := (gd_cd, fun k pc t => gd_ctc t pc (gd_hd k), fun k => (gd_mt k).2.2.1)
theorem gd_P0_ok : gd_ok gd_mt gd_hd gd_P0 := ⟨gd_cd_ok, fun _ _ _ => rfl, fun _ => rfl, gd_hd_ok⟩
theorem gd_plain (k : Nat) : plainName (gd_mt k).1.cls = true := by
  rcases Nat.lt_or_ge k 289 with q | q
  · have h : ∀ k, k < 289 → plainName (gd_mt k).1.cls = true := by decide +kernel
    exact h k q
  · rw [gd_mt_ge q]; decide +kernel

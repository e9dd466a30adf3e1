/-! ===== THE CALL work: the class ===== -/
set_option maxRecDepth 100000
/-- the steps are run on a new row -/
theorem x57e {h h3 h4 : gd_H} {D : gdD} {ρ r p c : Nat} {b : gdY} {σ : Nat} (hi : XI h D) (hD : DI D) (hw : dW D < 16) (hσ : gR h 96 15 = σ) (kx : Kx c h h4) (hc : c ≤ 900) (f16 : gI h4 96 16 = 0) (f17 : gI h4 96 17 = -1) (hρ : gS h ≤ ρ) (h3s : gS h ≤ gS h3) (hr3 : gS h3 = r) (hρ3 : ρ < gS h3) (z : ZI h3 h4 (dE D) r 1 0 p b.2 2) (hp : p ≤ 150) {d : Nat} (hd : 700 ≤ d) :
    ∃ F, go gd_P0 d 57 62 [.ref 96, .null, .null, .null, .null] [.ref r] (rz h4 ρ p 0) = some (.inl (some (.int (Int32.ofNat (b.2 (dNow D, 0, 0, 0)).2.2.1))), F) ∧ XI F (dK D (b.2 (dNow D, 0, 0, 0)).1 (Int32.ofNat (b.2 (dNow D, 0, 0, 0)).2.2.2)) ∧ FX h F := by
  obtain ⟨hg, ⟨σ', ⟨s1, s2, s3⟩, s4, s5, s6, s7⟩, ⟨w1, w2⟩, -, -, -, -, -, -, lw, sz⟩ := id hi
  have eσ : σ' = σ := s1.symm.trans hσ
  subst eσ
  clear s2
  obtain ⟨⟨z1, z2, z3⟩, kc, k96⟩ := id kx
  have σ12 : 1223 < σ' := s4.1
  generalize hW : dW D = w at *
  generalize ha' : 101 + 16 * (w + 1) = a'
  generalize ha : 101 + 16 * w = a
  -- under the reader's place
  generalize eG : rz h4 ρ p 0 = G
  have GT : gT G = gT h4 := by rw [← eG]; rfl
  have GL : gL G = gL h4 := by rw [← eG]; rfl
  have GR : gR G = gR h4 := by rw [← eG]; rfl
  have GS : gS G = gS h4 := by rw [← eG]; rfl
  have GU : gU G = gU h4 := by rw [← eG]; rfl
  have GI : ∀ q, q ≠ ρ → gI G q = gI h4 q := fun q hq => by rw [← eG]; exact rz_b _ _ _ _ hq
  clear eG
  have hT : ∀ q, q < gS h → gT h4 q = gT h q ∧ gL h4 q = gL h q := fun q hq => ⟨(kc q hq).1, (kc q hq).2.1⟩
  have hR : ∀ q, q < gS h → gR h4 q = gR h q := fun q hq => (kc q hq).2.2.1
  have hI : ∀ q, q < gS h → q ≠ 96 → gI h4 q = gI h q := fun q hq z => (kc q hq).2.2.2 z
  obtain ⟨m, arr, Vi, ⟨a1, a2, a3, a4, a5, a6, a7⟩, ⟨c1, c2, c3, c4⟩, el, eV⟩ := z.el (by omega)
  -- one row more, the run
  generalize eG1 : wI G (up1 (gI G) 99 1 (gI G 99 1 + 1)) = G1
  have G1T : gT G1 = gT h4 := by rw [← eG1]; exact GT
  have G1L : gL G1 = gL h4 := by rw [← eG1]; exact GL
  have G1R : gR G1 = gR h4 := by rw [← eG1]; exact GR
  have G1S : gS G1 = gS h4 := by rw [← eG1]; exact GS
  have G1U : gU G1 = gU h4 := by rw [← eG1]; exact GU
  have i99G : gI G 99 1 = Int32.ofNat w := by rw [GI 99 (by omega), hI 99 (by omega) (by omega)]; exact w1
  have G1I99 : gI G1 99 1 = Int32.ofNat (w + 1) := by rw [← eG1, gI_wI, up1_eq, i99G]; exact j_s _
  have G1I : ∀ q, q ≠ ρ → q ≠ 99 → gI G1 q = gI h4 q := fun q h1 h2 => by rw [← eG1, gI_wI, up1_nc _ _ _ h2]; exact GI q h1
  generalize eν : gS h4 = ν at *
  generalize eG2 : nw G1 22 0 4 = G2
  have G2S : gS G2 = ν + 1 := by rw [← eG2, gS_nw, G1S]
  have G2U : gU G2 = gU h4 + 4 := by rw [← eG2, gU_nw, G1U]
  have G2b : ∀ q, q < ν → gT G2 q = gT h4 q ∧ gL G2 q = gL h4 q ∧ gI G2 q = gI G1 q ∧ gR G2 q = gR h4 q := by
    intro q hq
    have zq : q ≠ gS G1 := by omega
    rw [← eG2]
    exact ⟨by rw [gT_nw, if_neg zq, G1T], by rw [gL_nw, if_neg zq, G1L], by funext j; rw [gI_nw, if_neg zq], by funext j; rw [gR_nw, if_neg zq, G1R]⟩
  have G2ν : gT G2 ν = 22 ∧ ∀ j, gI G2 ν j = 0 := by
    rw [← eG2]
    exact ⟨by rw [gT_nw, if_pos G1S.symm], fun j => by rw [gI_nw, if_pos G1S.symm]⟩
  have saG : ∀ k, k < 17 → SA G2 (101 + 16 * k) := fun k hk => (hg.2.2.2.2.2.2.2.1 k hk).of (fun q hq => ⟨by rw [(G2b q (by omega)).1]; exact (hT q (by omega)).1, by rw [(G2b q (by omega)).2.1]; exact (hT q (by omega)).2⟩) (fun j _ => by rw [(G2b _ (by omega)).2.2.2, hR _ (by omega)])
  have scG : SC G2 σ' := s4.cg (fun q h1 h2 => ⟨by rw [(G2b q (by omega)).1]; exact (hT q (by omega)).1, by rw [(G2b q (by omega)).2.1]; exact (hT q (by omega)).2⟩) (fun j => by rw [(G2b _ (by omega)).2.2.2, hR _ (by omega)])
  have T96 : gT h4 96 = 1 := (hT 96 (by omega)).1.trans hg.1
  have R96 : gR h4 96 2 = 99 := by rw [hR 96 (by omega)]; exact x_r2 hg
  have T99 : gT h4 99 = 3 := (hT 99 (by omega)).1.trans (x_t2 hg)
  obtain ⟨n1, n2, n3⟩ := hg.2.2.2.1
  have r100 : ∀ k, k < 17 → gR h4 100 k = 101 + 16 * k := fun k hk => by rw [hR 100 (by omega)]; exact hg.2.2.2.2.1 k hk
  have e145 := sp145w (G := G) (w := w) (by rw [GT]; exact T99) (by rw [GR, hR 99 (by omega)]; exact n1) (by rw [GT, (hT 100 (by omega)).1]; exact n2) (by rw [GL, (hT 100 (by omega)).2]; exact n3) (by rw [GR]; exact r100 w (by omega)) i99G (by omega) (d := d) (by omega)
  have e145' := sp145w (G := G2) (w := w + 1) (by rw [(G2b 99 (by omega)).1]; exact T99) (by rw [(G2b 99 (by omega)).2.2.2, hR 99 (by omega)]; exact n1) (by rw [(G2b 100 (by omega)).1, (hT 100 (by omega)).1]; exact n2) (by rw [(G2b 100 (by omega)).2.1, (hT 100 (by omega)).2]; exact n3) (by rw [(G2b 100 (by omega)).2.2.2]; exact r100 (w + 1) (by omega)) (by rw [(G2b 99 (by omega)).2.2.1]; exact G1I99) (by omega) (d := d) (by omega)
  have saA := saG (w + 1) (by omega)
  have saB := saG w (by omega)
  rw [ha] at e145 saB
  rw [ha'] at e145' saA
  have e150 := sp150 (h := G2) (a := a') (b := a) (d := d) (by omega) saA saB (by omega)
  have xcn : XC (gI G2) a σ' (dE D) (-1) (dNow D) := by
    have := (s6 w (by omega)).2
    rw [ha] at this
    have eD : dNow D = dRow D w := by unfold dNow; rw [hW]
    rw [eD]
    exact this.eq fun q hq => by rw [(G2b q (by omega)).2.2.1, G1I q (by omega) (by omega)]; exact hI q (by omega) (by omega)
  have r9 : gR G2 a 9 = σ' := by
    rw [(G2b a (by omega)).2.2.2, hR a (by omega), ← ha]
    exact (s6 w (by omega)).1
  generalize eG3 : wR (wI G2 (asI (gI G2) a' a)) (up1 (gR G2) a' 9 (gR G2 a 9)) = G3 at e150
  generalize eG4 : wR G3 (up1 (gR G3) ν 0 a') = G4
  have G4T : gT G4 = gT G2 := by rw [← eG4, ← eG3]; rfl
  have G4L : gL G4 = gL G2 := by rw [← eG4, ← eG3]; rfl
  have G4S : gS G4 = ν + 1 := by rw [← eG4, ← eG3]; exact G2S
  have G4U : gU G4 = gU h4 + 4 := by rw [← eG4, ← eG3]; exact G2U
  have G4I : ∀ q, (q < a' ∨ a' + 6 < q) → gI G4 q = gI G2 q := fun q hq => by
    rw [← eG4, ← eG3]
    exact asI_fr hq
  have G4R : ∀ q j, q ≠ ν → ¬ (q = a' ∧ j = 9) → gR G4 q j = gR G2 q j := by
    intro q j h1 h2
    rw [← eG4, ← eG3]
    show up1 (up1 (gR G2) a' 9 (gR G2 a 9)) ν 0 a' q j = _
    rw [up1_nc _ _ _ h1]
    unfold up1
    rw [if_neg h2]
  have G4R9 : gR G4 a' 9 = σ' := by
    rw [← eG4, ← eG3]
    show up1 (up1 (gR G2) a' 9 (gR G2 a 9)) ν 0 a' a' 9 = _
    rw [up1_nc _ _ _ (by omega), up1_eq, r9]
  have G4Rν : gR G4 ν 0 = a' := by rw [← eG4]; show up1 (gR G3) ν 0 a' ν 0 = _; rw [up1_eq]
  have e140 : run gd_P0 d 140 [.ref ν, .ref a'] G3 = some (.inl none, G4) := by
    obtain ⟨d, rfl⟩ : ∃ e, d = e + 1 := ⟨d - 1, by omega⟩
    have : gT G3 ν = 22 := by rw [← eG3]; exact G2ν.1
    rw [r140, s140_0, if_pos (by omega), s140_4, if_pos this, eG4]
  have xc4 : XC (gI G4) a' σ' (dE D) (-1) (dNow D) := by
    rw [← eG4, ← eG3]
    exact asI_XC xcn σ12 (by omega) (by omega)
  have ss4 : SS G4 a' σ' := by
    refine SS.mk ?_ ?_ G4R9
    · have := saG (w + 1) (by omega)
      rw [ha'] at this
      exact this.of (fun q _ => ⟨by rw [G4T], by rw [G4L]⟩) (fun j hj => G4R _ _ (by omega) (fun z => hj z.2))
    · exact scG.cg (fun q _ _ => ⟨by rw [G4T], by rw [G4L]⟩) (fun j => G4R _ _ (by omega) (by omega))
  -- what stands of before
  have fT : ∀ q, q < gS h → gT G4 q = gT h q ∧ gL G4 q = gL h q := fun q hq => ⟨by rw [G4T, (G2b q (by omega)).1]; exact (hT q hq).1, by rw [G4L, (G2b q (by omega)).2.1]; exact (hT q hq).2⟩
  have fR : ∀ q j, q < gS h → ¬ (q = a' ∧ j = 9) → gR G4 q j = gR h q j := fun q j hq h2 => by rw [G4R q j (by omega) h2, (G2b q (by omega)).2.2.2, hR q hq]
  have fI : ∀ q, q < gS h → q ≠ 96 → q ≠ 99 → (q < a' ∨ a' + 8 < q) → gI G4 q = gI h q := fun q hq h1 h2 h3 => by rw [G4I q (by omega), (G2b q (by omega)).2.2.1, G1I q (by omega) h2]; exact hI q hq h1
  have fI96 : gI G4 96 = gI h4 96 := by rw [G4I 96 (by omega), (G2b 96 (by omega)).2.2.1, G1I 96 (by omega) (by omega)]
  have fI99 : gI G4 99 1 = Int32.ofNat (w + 1) := by rw [G4I 99 (by omega), (G2b 99 (by omega)).2.2.1]; exact G1I99
  have fIν : ∀ j, gI G4 ν j = 0 := fun j => by rw [G4I ν (by omega)]; exact G2ν.2 j
  have kp : Kp h G4 := ⟨by omega, fun q h1 h2 => ⟨(fT q h2).1, (fT q h2).2, fI q h2 (by omega) (by omega) (by omega), funext fun j => fR q j h2 (by omega)⟩⟩
  have lw4 : LWx G4 (eL (dE D)) := lw.kp kp (fT 98 (by omega)).1 (fR 98 0 (by omega) (by omega))
  have wt : WT G4 ν a' σ' (dE D) (dNow D, 0, 0, 0) := ⟨⟨by rw [G4T]; exact G2ν.1, G4Rν, by omega, Or.inr (by omega)⟩, ⟨fIν 1, fIν 2, fIν 3⟩, ⟨ss4, xc4, lw4⟩, hD.1, (by unfold dNow; rw [hW]; exact hD.2.1 w (by omega)), by show 0 ≤ 200; omega, by show 0 + 0 ≤ 0; omega⟩
  -- the steps in their cells
  have c4b : ∀ q, gS h3 ≤ q → q < ν → gT G4 q = gT h4 q ∧ gL G4 q = gL h4 q ∧ gI G4 q = gI h4 q ∧ gR G4 q = gR h4 q := fun q h1 h2 => ⟨by rw [G4T, (G2b q h2).1], by rw [G4L, (G2b q h2).2.1], by rw [G4I q (by omega), (G2b q h2).2.2.1, G1I q (by omega) (by omega)], funext fun j => by rw [G4R q j (by omega) (by omega), (G2b q h2).2.2.2]⟩
  have hac : ∀ i, i < m → AC G4 ν a' σ' (dE D) (gS h3) ν (gR G4 arr i) (Vi i) d := fun i hi => by
    rw [(c4b arr c3 c4).2.2.2]
    exact sp142 (Or.inr (Nat.le_refl _)) (by omega) p _ _ (RWs_cg (Nat.le_refl _) (Nat.le_refl _) c4b _ _ _ _ (by omega) (el i hi)) d (by omega)
  obtain ⟨d, rfl⟩ : ∃ e, d = e + 1 := ⟨d - 1, by omega⟩
  have hac : ∀ i, i < m → AC G4 ν a' σ' (dE D) (gS h3) ν (gR G4 arr i) (Vi i) d := fun i hi => by
    rw [(c4b arr c3 c4).2.2.2]
    exact sp142 (Or.inr (Nat.le_refl _)) (by omega) p _ _ (RWs_cg (Nat.le_refl _) (Nat.le_refl _) c4b _ _ _ _ (by omega) (el i hi)) d (by omega)
  obtain ⟨q1, q2, q3, q4⟩ := c4b r c1 c2
  obtain ⟨I', e131, w', f'⟩ := lpO (d := d) (tm := 1) (Or.inr (Nat.le_refl _)) (by omega) ⟨c1, c2⟩ (q1.trans a1) (by rw [q3]; exact a2) (by omega) (by rw [q3]; exact a3) (by rw [q4]; exact a4) ((c4b arr c3 c4).1.trans a5) (by rw [(c4b arr c3 c4).2.1]; exact a6) a7 (by omega) hac (dNow D, 0, 0, 0) 1 0 (gI G4) 0 rfl (fun _ _ _ => rfl) (by rw [wI_self]; exact wt)
  have e131 : go gd_P0 d 131 2 [.ref r, .ref ν, .int 0, .null] [] (wI G4 (gI G4)) = _ := e131
  rw [wI_self] at e131
  have eb : itr (fun s => fo (fun i s => gu (Vi i) s) m s) 1 (dNow D, 0, 0, 0) = b.2 (dNow D, 0, 0, 0) := by rw [eV]; rfl
  rw [eb] at w'
  obtain ⟨⟨u1, u2, u3, u4⟩, ⟨v1, v2, v3⟩, ⟨-, xcF, -⟩, -, rjF, -⟩ := w'
  have v2 : I' ν 2 = _ := v2
  have v3 : I' ν 3 = _ := v3
  have FI : ∀ q, q ≠ 96 → up1 I' 96 19 (I' ν 3) q = I' q := fun q hq => up1_nc _ _ _ hq
  have I96 : I' 96 = gI h4 96 := by rw [f' 96 (by omega) (by omega)]; exact fI96
  have F1 : ∀ q, q < gS h → q ≠ 96 → q ≠ 99 → (q < a' ∨ a' + 8 < q) → up1 I' 96 19 (I' ν 3) q = gI h q := fun q hq h1 h2 h3 => by rw [FI q h1, f' q (by omega) h3]; exact fI q hq h1 h2 h3
  have tν : gT G4 ν = 22 := by rw [G4T]; exact G2ν.1
  have tr : gT G4 r = 18 := q1.trans a1
  have e2G : gR G 96 2 = 99 := by rw [GR]; exact R96
  have e2G2 : gR G2 96 2 = 99 := by rw [(G2b 96 (by omega)).2.2.2]; exact R96
  have T96G : gT G 96 = 1 := by rw [GT]; exact T96
  have T99G : gT G 99 = 3 := by rw [GT]; exact T99
  have T96G2 : gT G2 96 = 1 := by rw [(G2b 96 (by omega)).1]; exact T96
  have T99G2 : gT G2 99 = 3 := by rw [(G2b 99 (by omega)).1]; exact T99
  have T3 : gT G3 ν = 22 := by rw [← eG3]; exact G2ν.1
  have Ta2 : gT G2 a' = 4 := saA.2.1.1
  refine ⟨wI (wI G4 I') (up1 I' 96 19 (I' ν 3)), ?_, ?_, ?_⟩
  · rw [s57_62, if_pos T96G, e2G, if_pos T99G, e145, gc_v, s57_80, if_pos T96G, e2G, if_pos T99G, if_pos T99G, eG1, eG2, if_pos T96G2, e2G2, if_pos T99G2, e145', gc_v, GS, s57_105, if_pos Ta2, e150, gc_v, s57_109, if_pos T3, e140, gc_n, s57_112, if_pos tr, r131, s131_0, e131, gc_n, s57_120, gT_wI, if_pos tν, if_pos (by rw [(fT 96 (by omega)).1]; exact hg.1), if_pos tν, gI_wI, FI ν (by omega), v2]
  · have := XI.work (h := h) (F := wI (wI G4 I') (up1 I' 96 19 (I' ν 3))) (D := D) (r := (b.2 (dNow D, 0, 0, 0)).1) (v := Int32.ofNat (b.2 (dNow D, 0, 0, 0)).2.2.2) hi (by omega) (by show gS h ≤ gS G4; omega) fT (fun q j hq h2 => fR q j hq (by rw [← ha']; rw [hW] at h2; exact h2)) (fun q hq h1 h2 h3 => F1 q hq h1 h2 (by rw [← ha']; rw [hW] at h3; exact h3)) (fun j h1 h2 h3 => by show up1 I' 96 19 (I' ν 3) 96 j = _; rw [up1_nj _ _ h3, I96]; exact k96 j h1 h2) (by show up1 I' 96 19 (I' ν 3) 96 16 = _; rw [up1_nj _ _ (by omega), I96]; exact f16) (by show up1 I' 96 19 (I' ν 3) 96 17 = _; rw [up1_nj _ _ (by omega), I96]; exact f17) (by show up1 I' 96 19 (I' ν 3) 96 19 = _; rw [up1_eq, v3]) (by show up1 I' 96 19 (I' ν 3) 99 1 = _; rw [FI 99 (by omega), f' 99 (by omega) (by omega), hW]; exact fI99) (by rw [hW, ha']; rw [s1]; exact G4R9) (by
      rw [hW, ha', s1]
      exact xcF.fr2 fun q hq => FI q (by omega))
    exact this
  · exact FX.work (w := w + 1) (by omega) sz ⟨by show gS h ≤ gS G4; omega, by show gS G4 ≤ _; omega, by show gU G4 ≤ _; omega⟩ fT (fun q j hq h2 => fR q j hq (by rw [← ha']; exact h2)) (fun q hq h1 h2 h3 => F1 q hq h1 h2 (by rw [← ha']; exact h3))

/-! a sentence is checked and done, on both sides: properties, sayings, commands, definitions, rules -/
section
variable {σ τ σ1 τ1 σ2 τ2 : ga_S} {f : Int} {N : Nat} {g : Int}
theorem CG_f {L : List Nat} (h : fr L σ σ1) (hL : (fT_bytes :: fT_size :: (tk1 ++ cgL)).all (fun F => !(L.contains F)) = true) : CG σ σ1 := by
  have k : ∀ F, F ∈ fT_bytes :: fT_size :: (tk1 ++ cgL) → σ1 F = σ F := fun F hF => fr_no h hL hF
  exact ⟨fun F hF => by rw [k F (mem_all (L := tk1) (by decide) F hF)], k _ (by decide), k _ (by decide), fun F hF => k F (mem_all (L := cgL) (by decide) F hF)⟩
/-- the same world, other rules or commands -/
theorem SI_cg (h : SI σ τ g) (C : CG σ σ1) (h1 : σ1 fR_latest = σ fR_latest) (m : ∀ F, F ∈ awM ++ [fM_kindHas, fM_described] → τ1 F = τ F) (rl : RL σ1 τ1) (cw : CW σ1 τ1) : SI σ1 τ1 g := by
  obtain ⟨W, R5, D, kb, t8, _, _, lt, ty⟩ := h
  have ma : ∀ F, F ∈ awM → τ1 F = τ F := fun F hF => m F (List.mem_append_left _ hF)
  refine ⟨WK_cg W C ma, RW5_cg R5 C ma, DW_cg D C ma, kb0_f kb (fun F hF => C.2.2.2 F (mem_all (L := [fW_properties, fW_kinds, fW_propertyKinds]) (by decide) F hF)) (m _ (by decide)), tv8_f t8 (C.2.2.2 _ (by decide)) (C.2.2.2 _ (by decide)), rl, cw, LT_f lt (by rw [C.2.2.2 fW_objects (by decide)]; exact Int.le_refl _) h1 (m _ (by decide)), PY_eq ty (C.2.2.2 _ (by decide)) (C.2.2.2 _ (by decide)) (C.2.2.2 _ (by decide)) (fun F hF => C.2.2.2 F (mem_all (L := pyL) (by decide) F hF))⟩
theorem sn_9 (H : snH σ τ f N g) (hs : σ fR_sort 0 0 = 9) (ht : τ fM_sort 0 0 = 9) (n0 : nn σ τ f 0 1) (r0 : rr σ τ f 0 0) (hw : τ fM_what 0 0 = f + σ fR_whatAt 0 0) (h0 : 0 ≤ σ fR_whatAt 0 0 ∧ σ fR_whatAt 0 0 < N) (ho : σ fR_runFrom 0 0 ≤ σ fR_whatAt 0 0) (hv : (σ fT_kinds 0 (σ fR_whatAt 0 0) = 1 ∨ σ fT_kinds 0 (σ fR_whatAt 0 0) = 2) ∨ (σ fR_runFrom 0 1 = σ fR_whatAt 0 0 ∧ rr σ τ f 1 2 ∧ σ fR_runTo 0 1 = N)) {d : Nat} (hd : 20 ≤ d) : snO σ τ g f d := by
  obtain ⟨d, rfl⟩ : ∃ e, d = e + 2 := ⟨d - 2, by omega⟩
  have hm : τ fM_runs 0 0 ≤ 2600 := by have := H.2.2.2.1; omega
  have rl := H.2.1.2.2.2.2.2.1
  have a24 := H.2.1.1.2.2.1.2.1
  have hq : 0 ≤ τ fM_tests 0 0 ∧ τ fM_tests 0 0 < 2400 := by
    have := rl.2.1
    have := rl.2.2.1
    omega
  obtain ⟨σ1, τ1, c, x1, x2, K, M, F1, G1, k1, m1, qk, a⟩ := ck_9 H.1 H.2.2.1 hm hs ht H.2.2.2.2.2.2.2.2.1 n0 r0 hw h0 ho hv hq (d := d) (by omega) f
  refine ⟨σ1, τ1, x1, x2, ?_⟩
  by_cases z : c = 1000000
  · have o := FG_ok F1 G1 z
    obtain ⟨C, S, T, E, I, h1, h2⟩ := acH_mk H K m1 (by decide) (fun F hF k hk => qk F hF k (by omega)) o
    obtain ⟨b1, b2, b3, b4, b5, b6, b7, b8⟩ := a z
    have en : σ1 fR_nameFrom = σ fR_nameFrom := k1 _ (by decide)
    have em : σ1 fR_nameTo = σ fR_nameTo := k1 _ (by decide)
    have er : σ1 fR_runFrom = σ fR_runFrom := k1 _ (by decide)
    have et : σ1 fR_runTo = σ fR_runTo := k1 _ (by decide)
    have ew : σ1 fR_whatAt = σ fR_whatAt := k1 _ (by decide)
    have eN : nN σ1 = nN σ := by funext i; unfold nN; rw [en, em, cg_nm C]
    have eR : nR σ1 = nR σ := by funext i; unfold nR; rw [er, et, cg_nm C]
    have etq : τ1 fM_tests = τ fM_tests := m1 _ (by decide)
    have R1 := RU_S S T (RU_of H.1.1 n0 hm)
    have R0 := RU_S S T (RU_of H.1.1 r0 hm)
    rw [← en, ← em] at R1
    rw [← er, ← et] at R0
    have pk : ¬ (dN σ (nN σ 0) 2 = -1 ∧ dN σ (nN σ 0) 0 = -1) := by
      intro y
      apply b1
      unfold pvK
      rw [if_pos y.1]; exact y.2
    obtain ⟨b, σ2, τ2, y1, y2, y3, y4, y5⟩ := act_9 E I.2.2.1 I.2.1 I.2.2.2.1 (by rw [T fM_story (by decide), C.2.1]; exact H.2.2.2.2.2.2.2.1) h1 h2 (by rw [k1 _ (by decide)]; exact hs) (by rw [m1 _ (by decide)]; exact ht) R1 R0 (by rw [cg_d C, eR]; exact b5) (by rw [cg_d C, eR]; exact b2) (by rw [cg_d C, eN]; exact b6) (by rw [cg_d C, eN]; exact pk) (by rw [etq]; exact hq) (by rw [ew]; exact h0) (by rw [cg_vlB C, cg_d C, eR, ew, C.2.2.2 fW_propertyTypes (by decide)]; exact b4) (by rw [ew]; exact cg_vR C b7) (by rw [ew, etq]; exact cg_vM C b8) (d := d) (by omega) f
    refine Or.inr ⟨h1, h2, b, σ2, τ2, y1, y2, ?_⟩
    rcases y5 with ⟨_, w1, w2, w3, w4, w5, w6⟩ | ⟨_, w⟩
    · right
      have S2 : tkS σ1 σ2 := tkS_f (tkS_r σ1) y3 (by decide)
      refine gd_mk H k1 (by decide) m1 (by decide) y3 (by decide) y4 (by decide) w1 w2 (g_same _) ?_
      exact SI_act I S2 y3 (by decide) y4 (by decide) w3 w4 w5 w6 (tv8_f I.2.2.2.2.1 (y3 _ (by decide)) (y3 _ (by decide))) (LT_f I.2.2.2.2.2.2.2.1 (S2.2.2.2.2.1 _ (by decide)) (y3 _ (by decide)) (y4 _ (by decide))) (fun a _ _ => by rw [y4 _ (by decide)]) (fun a z0 z1 => by rw [y3 fW_adjectives (by decide)] at z1; omega) (NW_e (y3 _ (by decide)) (y3 _ (by decide)))
    · exact Or.inl (bd_mk2 H (AF_bd w (by decide)) k1 (by decide) (by decide) m1 (by decide) y3 (by decide) (by decide) y4 (by decide))
  · exact Or.inl (bd_mk H (FG_bad F1 G1 z) K.1 (by decide) (by decide) m1 (by decide))
theorem sn_20 (H : snH σ τ f N g) (hs : σ fR_sort 0 0 = 20) (ht : τ fM_sort 0 0 = 20) (hN : 1 ≤ (N : Int)) {d : Nat} (hd : 20 ≤ d) : snO σ τ g f d := by
  obtain ⟨d, rfl⟩ : ∃ e, d = e + 2 := ⟨d - 2, by omega⟩
  obtain ⟨σ1, τ1, c, x1, x2, K, M, F1, G1, m1, a⟩ := ck_20 H.1 H.2.2.1 hs ht H.2.2.2.2.2.2.2.2.1 H.2.2.2.2.2.2.2.2.2 hN (d := d) (by omega)
  refine ⟨σ1, τ1, x1, x2, ?_⟩
  by_cases z : c = 1000000
  · have o := FG_ok F1 G1 z
    obtain ⟨C, S, T, E, I, h1, h2⟩ := acH_mk H K m1 (by decide) (fun F hF k _ => by rw [fr_no m1 (M := qL) (by decide) hF]) o
    obtain ⟨m, b1, b2, b3⟩ := a z
    obtain ⟨b, σ2, τ2, y1, y2, y3⟩ := act_20 E I.2.2.1 I.2.1 I.2.2.2.1 h1 h2 (by rw [K.1 _ (by decide)]; exact hs) (by rw [m1 _ (by decide)]; exact ht) (by rw [C.1 fT_count (by decide)]; exact H.2.2.2.2.2.2.2.2.1) (m := m) (by rw [cg_sL C]; exact b1) b2 (cg_sK C b3) (d := d) (by omega)
    refine Or.inr ⟨h1, h2, b, σ2, τ2, y1, y2, ?_⟩
    rcases y3 with ⟨_, x3, x4, w1, w2, ⟨B1, B2, B3, B4, B5, B6⟩⟩ | ⟨_, w, q1, q2⟩
    · right
      refine gd_mk H K.1 (by decide) m1 (by decide) x3 (by decide) x4 (by decide) w1 w2 (g_same _) ?_
      exact SI_act I B1 x3 (by decide) x4 (by decide) B3 B4 B5 B6.1 (tv8_f I.2.2.2.2.1 (x3 _ (by decide)) (x3 _ (by decide))) (LT_f I.2.2.2.2.2.2.2.1 (B1.2.2.2.2.1 _ (by decide)) (x3 _ (by decide)) (x4 _ (by decide))) (fun a _ _ => by rw [x4 _ (by decide)]) (fun a z0 z1 => by rw [x3 fW_adjectives (by decide)] at z1; omega) B6.2
    · exact Or.inl (bd_mk2 H (AF_bd w (by decide)) K.1 (by decide) (by decide) m1 (by decide) q1 (by decide) (by decide) q2 (by decide))
  · exact Or.inl (bd_mk H (FG_bad F1 G1 z) K.1 (by decide) (by decide) m1 (by decide))
theorem sn_1 (H : snH σ τ f N g) (hs : σ fR_sort 0 0 = 1) (ht : τ fM_sort 0 0 = 1) (U : uR σ τ f N) {d : Nat} (hd : 20 ≤ d) : snO σ τ g f d := by
  obtain ⟨d, rfl⟩ : ∃ e, d = e + 2 := ⟨d - 2, by omega⟩
  have hm : τ fM_runs 0 0 ≤ 2600 := by have := H.2.2.2.1; omega
  have cw := H.2.1.2.2.2.2.2.2.1
  obtain ⟨σ1, τ1, c, x1, x2, K, M, F1, G1, m1, a⟩ := ck_1 H.1 H.2.2.2.2.2.1 H.2.2.2.2.2.2.1 H.2.2.2.2.2.2.2.1 H.2.2.1 hm hs ht U ⟨cw.1.1, cw.1.2.2⟩ (d := d) (by omega) f
  refine ⟨σ1, τ1, x1, x2, ?_⟩
  by_cases z : c = 1000000
  · have o := FG_ok F1 G1 z
    obtain ⟨C, S, T, E, I, h1, h2⟩ := acH_mk H K m1 (by decide) (fun F hF k _ => by rw [fr_no m1 (M := qL) (by decide) hF]) o
    obtain ⟨b1, b2, b3, b4, n, b5⟩ := a z
    obtain ⟨U1, U2, U3, U4, U5, r0⟩ := U
    have R0 := RU_S S T (RU_of H.1.1 r0 hm)
    rw [← b4.1, ← b4.2] at R0
    have eR : nR σ1 0 = nR σ 0 := by unfold nR; rw [b4.1, b4.2, cg_nm C]
    have tk := H.1.2.1.2.1 (σ fR_whatAt 0 0) U1 U2
    have Q : CMr σ1 (σ1 fT_bytes 0) (σ fT_places 0 (σ fR_whatAt 0 0) + 1) (σ fT_places 0 (σ fR_whatAt 0 0) + σ fT_lengths 0 (σ fR_whatAt 0 0) - 1) σ1 τ1 (dN σ (nR σ 0) 8) n := by
      rw [C.2.1]
      unfold CMr at b5 ⊢
      rw [C.2.2.2 fW_actionKinds (by decide), C.2.2.2 fW_kinds (by decide), C.2.2.2 fW_parents (by decide)]
      exact b5
    obtain ⟨σ2, τ2, y1, y2, y3, y4, y5⟩ := act_1 E I.2.2.2.2.2.2.1 (by rw [K.1 _ (by decide)]; exact hs) (by rw [m1 _ (by decide)]; exact ht) R0 (X := dN σ (nR σ 0) 8) (by rw [cg_d C, eR]) b1 (by rw [K.1 _ (by decide)]; exact b2) b3 Q ⟨by omega, by rw [C.2.2.1]; omega⟩ (d := d) (by omega) f
    refine Or.inr ⟨h1, h2, 1, σ2, τ2, y1, y2, Or.inr ?_⟩
    refine gd_mk H K.1 (by decide) m1 (by decide) y3 (by decide) y4 (by decide) (by rw [y3 _ (by decide)]; exact h1) (by rw [y4 _ (by decide)]; exact h2) (g_same _) ?_
    have C2 : CG σ1 σ2 := CG_f y3 (by decide)
    have S2 := cg_tkS C2
    have W2 := WK_cg (τ1 := τ2) I.1 C2 (fr_mem y4 (by decide))
    exact SI_cg I C2 (y3 _ (by decide)) (fr_mem y4 (by decide)) (RL_grow I.2.2.2.2.2.1 S2.2.2.2.2 (fun nm s _ _ => by rw [cg_d C2]) (nmR_D I.2.2.1.1 I.1.2.2.2.2.2.2.2.2.2.1) (kdR_W I.1) (kdR_W W2) I.1.2.2.1 y3 (by decide) y4 (by decide) (fun a _ _ => by rw [y4 _ (by decide)]) (fun a z0 z1 => by rw [y3 fW_adjectives (by decide)] at z1; omega)) y5
  · exact Or.inl (bd_mk H (FG_bad F1 G1 z) K.1 (by decide) (by decide) m1 (by decide))
theorem sn_2 (H : snH σ τ f N g) (hs : σ fR_sort 0 0 = 2) (ht : τ fM_sort 0 0 = 2) (D : dR σ τ f N) {d : Nat} (hd : 20 ≤ d) : snO σ τ g f d := by
  obtain ⟨d, rfl⟩ : ∃ e, d = e + 2 := ⟨d - 2, by omega⟩
  have hm : τ fM_runs 0 0 ≤ 2600 := by have := H.2.2.2.1; omega
  have rl := H.2.1.2.2.2.2.2.1
  have a24 := H.2.1.1.2.2.1.2.1
  have hq : 0 ≤ τ fM_tests 0 0 ∧ τ fM_tests 0 0 ≤ 700 := by
    have := rl.2.1
    have := rl.2.2.1
    omega
  have hd0 := SLT_bx rl.1
  obtain ⟨σ1, τ1, c, x1, x2, K, M, F1, G1, rk, m1, qk, a⟩ := ck_2 H.1 H.2.2.1 hm hs ht D hd0.1 hq (d := d + 1) (by omega) f
  refine ⟨σ1, τ1, x1, x2, ?_⟩
  by_cases z : c = 1000000
  · have o := FG_ok F1 G1 z
    obtain ⟨C, S, T, E, I, h1, h2⟩ := acH_mk H K m1 (by decide) (fun F hF k hk => qk F hF k (Or.inl hk)) o
    obtain ⟨⟨b1, b2, b3, b4⟩, b5, b6, b7⟩ := a z
    obtain ⟨D1, D2, D3, D4, D5⟩ := D
    have R0 := RU_S S T (RU_of H.1.1 D2 hm)
    have R1 := RU_S S T (RU_of H.1.1 D3 hm)
    have r0 := rk 0 (by omega)
    have r1 := rk 1 (by omega)
    have e0 : nR σ1 0 = nR σ 0 := by unfold nR; rw [r0.1, r0.2, cg_nm C]
    have e1 : wC σ1 1 = wC σ 1 := by unfold wC; rw [r1.1, r1.2, cg_ws C]
    rw [← r0.1, ← r0.2] at R0
    rw [← r1.1, ← r1.2] at R1
    have ets : τ1 fM_tShown 0 0 = σ fR_tests 0 0 := by rw [m1 _ (by decide)]; exact D4.2.1
    have etq : τ1 fM_tests = τ fM_tests := m1 _ (by decide)
    have ead : σ1 fW_adjectives = σ fW_adjectives := C.2.2.2 _ (by decide)
    have edr : σ1 fR_draft = σ fR_draft := K.1 _ (by decide)
    obtain ⟨σ2, τ2, y1, y2, y3, y4, y5, y6, y7, y8, w1, w2, w3, w4, w5, w6, w7, w8⟩ := act_2 E I.2.2.1 I.2.1 (by rw [K.1 _ (by decide)]; exact hs) (by rw [m1 _ (by decide)]; exact ht) R0 R1 (by rw [r1.1, r1.2]; exact D3.2.2.2.2.1) (by rw [cg_d C, e0]; exact b1) (by rw [cg_d C, e0]; exact b2) (by rw [cg_nB C, e1]; exact b3) (by rw [ead]; exact b4) (by rw [etq]; exact hq) (by rw [ets]; exact ⟨D5, b5⟩) (d := d) (by omega) f
    refine Or.inr ⟨h1, h2, 1, σ2, τ2, y1, y2, Or.inr ?_⟩
    refine gd_mk H K.1 (by decide) m1 (by decide) y3 (by decide) y4 (by decide) (by rw [y3 _ (by decide)]; exact h1) (by rw [y4 _ (by decide)]; exact h2) (g_same _) ?_
    have G := y8.2.2.2.2
    have p1 := I.1.2.2.2.2.2.1.1
    have rK := dN_rg E.2.2.1 E.2.2.2.2.2.2.2.2.2.2.2.2.1 (nR σ1 0) 0
    have m0 : mxN σ1 0 = σ1 fW_kinds 0 0 := rfl
    have Z : GZ σ σ1 := ⟨S.2.2.2.2, kdR_W H.2.1.1, kdR_W I.1⟩
    have kd0 := dN_rg H.1.2.2.1 H.2.1.1.2.2.2.2.2.2.2.2.2.1 (nR σ 0) 0
    have m00 : mxN σ 0 = σ fW_kinds 0 0 := rfl
    have rl2 : RL σ2 τ2 := by
      refine RL_def (σ := σ1) (τ := τ1) (σ1 := σ1) (τ1 := τ1) (K := dN σ1 (nR σ1 0) 0) (S := τ1 fM_tShown 0 0) I.2.2.2.2.2.1 I.1 I.2.2.1.1 (KC_r σ1) (fr_refl _ _) (fun _ _ _ _ => rfl) (fun _ _ => rfl) ?_ (by rw [ets]; exact ⟨D5, b5⟩) (by rw [ead]; exact b4) (by rw [edr, ets]; exact b6) (fun j j0 j1 => ?_) y3 y4 G (DX_GD y8.2.2.2.1 y7.1) (kdR_W y5) w1 w2 w3 w4 w5 w6 w7 w8
      · have : dN σ1 (nR σ1 0) 0 ≠ -1 := by rw [cg_d C, e0]; exact b2
        omega
      · rw [ets] at j1
        rw [edr, etq, cg_d C, e0]
        exact stT_g Z (Or.inr (by omega)) (Or.inl ⟨rfl, rfl⟩) (b7 j j0 j1)
    refine ⟨y5, y6, y7, kb0_f I.2.2.2.1 (fr_mem y3 (by decide)) (y4 _ (by decide)), tv8_f I.2.2.2.2.1 (y3 _ (by decide)) (y3 _ (by decide)), rl2, CW_grow I.2.2.2.2.2.2.1 ⟨G, kdR_W I.1, kdR_W y5⟩ y3 (by decide) y4 (by decide), LT_f I.2.2.2.2.2.2.2.1 (G.1 _ (by decide)) (y3 _ (by decide)) (y4 _ (by decide)), ?_⟩
    exact PY_G I.2.2.2.2.2.2.2.2 G I.1 y5 y8.2.2.2.1 (NW_e (y3 _ (by decide)) (y3 _ (by decide)))
  · exact Or.inl (bd_mk H (FG_bad F1 G1 z) K.1 (by decide) (by decide) m1 (by decide))
theorem sn_ru (H : snH σ τ f N g) (hs : 3 ≤ σ fR_sort 0 0 ∧ σ fR_sort 0 0 ≤ 6) (ht : τ fM_sort 0 0 = σ fR_sort 0 0) (U : ruR σ τ f N (σ fR_sort 0 0)) {d : Nat} (hd : 20 ≤ d) : snO σ τ g f d := by
  obtain ⟨d, rfl⟩ : ∃ e, d = e + 2 := ⟨d - 2, by omega⟩
  have hm : τ fM_runs 0 0 ≤ 2600 := by have := H.2.2.2.1; omega
  have rl := H.2.1.2.2.2.2.2.1
  have a24 := H.2.1.1.2.2.1.2.1
  have hru := rl.2.1
  have htq := rl.2.2.1
  have hph := rl.2.2.2.1
  have hd0 := SLT_bx rl.1
  obtain ⟨σ1, τ1, c, nk, x1, x2, K, m1, F1, G1, y, _, a⟩ := ck_rule H.1 H.2.2.2.2.2.1 H.2.2.2.2.2.2.1 H.2.2.2.2.2.2.2.1 H.2.2.1 hm hs ht U hd0.1 (by omega) (by omega) hru H.2.2.2.2.1 (d := d) (by omega)
  refine ⟨σ1, τ1, x1, x2, ?_⟩
  by_cases z : c = 1000000
  · have o := FG_ok F1 G1 z
    obtain ⟨b1, b2, b3, b4, b5, b6, b7, b8⟩ := a z
    have C := CG_K K
    have er : σ1 fW_rules = σ fW_rules := K.1 _ (by decide)
    have es : σ1 fR_sort = σ fR_sort := K.1 _ (by decide)
    obtain ⟨σ2, w1, w2, w3, w4, w5, w6⟩ := act_ru (σ1 := σ1) (τ1 := τ1) (by rw [es]; exact hs) (by rw [es, m1 _ (by decide)]; exact ht) (by rw [er]; omega) (d := d + 1) (by omega) f
    refine Or.inr ⟨o.1, o.2, 1, σ2, τ1, w1, w2, Or.inr ?_⟩
    have rl2 : RL σ2 τ1 := RL_rule rl H.2.1.1 H.2.1.2.2.1.1 K m1 b8 b1 b2 b3 b4 (by rw [b7.1, b7.2.1]; exact b5) (by rw [b7.2.1]; exact b6) w3 w4 w5 w6
    have C12 : CG σ1 σ2 := CG_f w3 (by decide)
    have C2 : CG σ σ2 := ⟨fun F hF => (C12.1 F hF).trans (C.1 F hF), C12.2.1.trans C.2.1, C12.2.2.1.trans C.2.2.1, fun F hF => (C12.2.2.2 F hF).trans (C.2.2.2 F hF)⟩
    have W2 := WK_cg (τ1 := τ1) H.2.1.1 C2 (fr_mem m1 (by decide))
    have fC : fr ([fW_rules, fW_rule, fR_draft] ++ ckC) σ σ2 := fr_trans (fr_sub K.1 (fun F hF => List.mem_append_right _ hF)) (fr_sub w3 (fun F hF => List.mem_append_left _ hF))
    have I2 : SI σ2 τ1 g := SI_cg H.2.1 C2 (by rw [w3 _ (by decide), K.1 _ (by decide)]) (fr_mem m1 (by decide)) rl2 (CW_grow H.2.1.2.2.2.2.2.2.1 ⟨(cg_tkS C2).2.2.2.2, kdR_W H.2.1.1, kdR_W W2⟩ fC (by decide) m1 (by decide))
    exact ⟨by rw [w3 _ (by decide)]; exact o.1, o.2, ⟨g, Int.le_refl _, (g_same _).2, I2⟩, fr_sub fC (by decide), fr_sub m1 (by decide), fC _ (by decide), y⟩
  · exact Or.inl ⟨FG_bad F1 G1 z, fr_sub K.1 (by decide), fr_sub m1 (by decide), fun F hF => fr_no K.1 (M := slF3) (by decide) hF, y⟩
end

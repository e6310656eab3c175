/-! the act of a property that a kind has, both sides -/
section
variable {σ τ : ga_S} {f : Int} {N : Nat}
theorem act_17 (E : E0 σ τ f N) {g : Int} (D : DW σ τ g) (R5 : RW5 σ τ) (kb : kb0 σ τ) (hf : σ fR_fault 0 0 = 0) (hb : τ fM_bestFault 0 0 = 0) (hs : σ fR_sort 0 0 = 17) (ht : τ fM_sort 0 0 = 17) (R0 : RU σ τ f N 0 (σ fR_nameFrom 0 0) (σ fR_nameTo 0 0)) (R1 : RU σ τ f N 1 (σ fR_runFrom 0 0) (σ fR_runTo 0 0)) (R2 : RU σ τ f N 2 (σ fR_runFrom 0 1) (σ fR_runTo 0 1)) (l2 : σ fR_runFrom 0 1 < σ fR_runTo 0 1) (hk : σ fR_kind0 0 0 = dN σ (nN σ 0) 0) (hk1 : dN σ (nN σ 0) 0 ≠ -1) (ho : σ fR_object0 0 0 = tyN σ (nR σ 0)) (ho1 : tyN σ (nR σ 0) ≠ -1) (hp : (fnd σ (nR σ 1) 0 = -1 ∧ nB σ (wC σ 1) [] = true ∧ σ fW_properties 0 0 < 12) ∨ dN σ (nR σ 1) 5 ≠ -1) {d : Nat} (hd : 5 ≤ d) (first : Int) : ∃ b σ' τ', c_r_act (d + 2) σ = some (b, σ') ∧ c_m_does1 (d + 2) τ first = some (0, τ') ∧ fr a17C σ σ' ∧ fr a17M τ τ' ∧ ((σ' fR_fault 0 0 = 0 ∧ τ' fM_bestFault 0 0 = 0 ∧ WK σ' τ' ∧ RW5 σ' τ' ∧ DW σ' τ' g ∧ kb0 σ' τ' ∧ tkS σ σ') ∨ AF σ' τ' 5 (σ fT_places 0 (σ fR_nameFrom 0 0))) := by
  have E' := E
  obtain ⟨E1, E2, E3, E4⟩ := E
  have ET : ENV σ τ f N ∧ TOK σ τ f N := ⟨E1, E2⟩
  have wk := E4
  obtain ⟨Wk, Wo, Wa, Wt, Wv, Wp, Wr, Wb, Wc, Wd, Wl⟩ := E4
  obtain ⟨K, eK⟩ : ∃ x, x = dN σ (nN σ 0) 0 := ⟨_, rfl⟩
  obtain ⟨Y, eY⟩ : ∃ x, x = tyN σ (nR σ 0) := ⟨_, rfl⟩
  obtain ⟨P, eP⟩ : ∃ x, x = dN σ (nR σ 1) 5 := ⟨_, rfl⟩
  have rK := e0_dN E' (nN σ 0) 0
  have rY := tyN_r E' (nR σ 0)
  have rP := e0_dN E' (nR σ 1) 5
  have m0 : mxN σ 0 = σ fW_kinds 0 0 := rfl
  have m5 : mxN σ 5 = σ fW_properties 0 0 := rfl
  have k16 := Wk.1.1
  have p12 := Wp.2.1
  have p1 := Wp.1
  rw [← eK] at rK hk hk1
  rw [← eY] at rY ho ho1
  rw [← eP] at rP hp
  have t0 := frB_t R0.2.2.2
  have hN5 := E1.2.2.1
  have fN := E1.2.1
  have f0 := E1.1
  -- what both ask
  obtain ⟨σ1, a1, a2⟩ := k_meanA ET (tkS_r σ) E3 R2.2.2.2 (d := d) (by omega) 5
  have a1' : c_r_mean d σ (σ fR_runFrom 0 1) (σ fR_runTo 0 1) 5 = some (P, σ1) := by rw [a1, eP]; rfl
  have b1 : c_m_meansRun d τ 0 0 = some (K, τ) := by rw [m_meansA ET (tkT_r τ) E3 R0 (by omega) 0, mN_dN (s := 0) (by omega), eK]; rfl
  have b2 : c_m_typeOrPlural d τ 1 = some (Y, τ) := by rw [m_typeOrPlural E' (fr_refl _ τ) R1 (by omega), eY]; rfl
  have b3 : c_m_meansRun d τ 2 7 = some (P, τ) := by rw [m_meansA ET (tkT_r τ) E3 R2 (by omega) 7, mN_dN (s := 5) (by omega), eP]; rfl
  have topC : ∀ b ρ, (b = 0 ∨ b = 1) → c_r_owner (d + 1) σ = some (b, ρ) → c_r_act (d + 2) σ = some (b, ρ) := by
    intro b ρ hb' h
    rw [e_r_act, hs]
    iterate 17 rw [if_neg (by decide)]
    rw [if_pos rfl, h]
    simp only [Option.bind_some]
    rw [z1_ok _ hb']
  have topM : ∀ ρ, c_m_doHas (d + 1) τ = some (0, ρ) → c_m_does1 (d + 2) τ first = some (0, ρ) := by
    intro ρ h
    rw [e_m_does1, ht]
    iterate 17 rw [if_neg (by decide)]
    rw [if_pos rfl, h]
    rfl
  have runC := e_r_owner d σ
  rw [a1'] at runC
  simp only [Option.bind_some] at runC
  have runM := e_m_doHas d τ
  rw [b1] at runM
  simp only [Option.bind_some] at runM
  rw [b2] at runM
  simp only [Option.bind_some] at runM
  rw [b3] at runM
  simp only [Option.bind_some] at runM
  have ac : ∀ F, F ∉ spL → σ1 F = σ F := a2
  by_cases z : P = -1
  · -- a new one
    rw [if_pos z] at runC runM
    obtain ⟨n1, n2, n3⟩ := hp.resolve_right (fun q => q z)
    have nb := nB_1 n2
    obtain ⟨p, ep⟩ : ∃ x, x = σ fW_properties 0 0 := ⟨_, rfl⟩
    have ep' : τ fM_properties 0 0 = p := by rw [Wp.2.2.1, ep]
    rw [← ep] at n3 p12 p1
    obtain ⟨σ2, e2⟩ : ∃ x, x = ga_up (ga_up (ga_up σ1 fW_properties 0 0 (p + 1)) fW_propertyTypes 0 p Y) fW_propertyKinds 0 p 0 := ⟨_, rfl⟩
    obtain ⟨τ2, g2⟩ : ∃ x, x = ga_up τ fM_propertyType 0 p Y := ⟨_, rfl⟩
    rw [ac fW_properties (by decide), ← ep, ck_ok _ (by omega), ck_ok _ (by omega), w32_ok (x := p + 1) (by omega), ac fR_object0 (by decide), ho, ← e2, ac fR_runFrom (by decide), ac fR_runTo (by decide)] at runC
    rw [ep', ck_ok _ (by omega), ← g2] at runM
    have f2 : fr [fW_properties, fW_propertyTypes, fW_propertyKinds] σ1 σ2 := by rw [e2]; exact fr_trans (fr_u (by decide)) (fr_trans (fr_u (by decide)) (fr_u (by decide)))
    have h2 : fr [fM_propertyType] τ τ2 := by rw [g2]; exact fr_u (by decide)
    have f02 : fr ([fW_properties, fW_propertyTypes, fW_propertyKinds] ++ spL) σ σ2 := fr_trans (fr_sub a2 (by decide)) (fr_sub f2 (by decide))
    have c2 : σ2 fW_properties 0 0 = p + 1 := by rw [e2, up_F (by decide), up_F (by decide), up_eq]
    have B2 : cB σ2 := by
      have Bc := D.2.2.2.2.1
      unfold cB at Bc ⊢
      rw [f02 fW_kinds (by decide), f02 fW_objects (by decide), f02 fW_values (by decide), f02 fW_types (by decide), f02 fW_actions (by decide), c2, f02 fW_adjectives (by decide), f02 fW_verbs (by decide), f02 fW_relations (by decide)]
      exact ⟨Bc.1, Bc.2.1, Bc.2.2.1, Bc.2.2.2.1, Bc.2.2.2.2.1, by omega, Bc.2.2.2.2.2.2⟩
    have D2 : DW σ2 τ2 g := DW_cm D (fr_mem f02 (by decide)) (fun F hF => by
      by_cases q : F = fW_properties
      · rw [q, c2, ← ep]; omega
      · rw [f02 F (by revert q; revert F; decide)]; exact Int.le_refl _) (fr_mem h2 (by decide)) B2
    have dic2 := dic_c (fr_mem f02 (M := dicL) (by decide))
    have len0 : σ fR_runTo 0 1 - σ fR_runFrom 0 1 ≤ 3 := by have := wsT_len (σ := σ) R2.2.2.2.2.1; have := nb.1; unfold wC at this; omega
    have nw : fnd σ2 (nmT σ (σ fR_runFrom 0 1) (σ fR_runTo 0 1)) 0 = -1 := by rw [dic2.1]; exact n1
    have mx5 : mxN σ2 5 = p + 1 := c2
    have GG : GC σ σ2 := by
      refine GC_g f02 (by decide) (cnt_1 f02 fW_properties (by decide) (by rw [c2, ← ep]; omega)) (Or.inl (by decide)) (by decide) (Or.inl (by decide)) (Or.inl (by decide)) (Or.inr (fun a a0 a1 => ?_)) (Or.inl (by decide))
      rw [← ep] at a1
      rw [e2, up_F (by decide), up_i (show a ≠ p by omega), up_F (by decide), ac _ (by decide), up_i (show a ≠ p by omega), up_F (by decide), up_F (by decide), ac _ (by decide)]
      exact ⟨rfl, fun _ _ _ y => y⟩
    obtain ⟨σ3, τ3, d1, d2, d3, d4, d5, d6, d7⟩ := tell_J ET (tkS_g (tkS_r σ) f02 (by decide) GG) (tkT_f (tkT_r τ) h2 (by decide)) D2 (s := 5) (n := p) R2 l2 len0 nw (by omega) (by omega) (by omega) (by omega) (fun k l e => by
      have l' : live σ k := by unfold live at l ⊢; rw [f02 fD_count (by decide), f02 fD_sorts (by decide)] at l; exact l
      have x := (Wd k l').1
      rw [f02 fD_sorts (by decide)] at e
      rw [e] at x
      rw [f02 fD_numbers (by decide)]
      have x' : σ fD_numbers 0 k < σ fW_properties 0 0 := x
      omega) (d := d) (d' := d) (by omega) (by omega)
    have d2' : c_m_tellRun d τ2 7 p 2 = some (0, τ3) := by
      have e5 : sM 5 p = 7 := rfl
      have e6 : iM 5 p = p := by unfold iM; rw [if_neg (by omega)]
      rw [e5, e6] at d2; exact d2
    rw [d1] at runC
    simp only [Option.bind_some] at runC
    rw [d2'] at runM
    simp only [Option.bind_some] at runM
    obtain ⟨τ4, g4⟩ : ∃ x, x = ga_up τ3 fM_properties 0 0 (p + 1) := ⟨_, rfl⟩
    have f4 : fr [fM_properties] τ3 τ4 := by rw [g4]; exact fr_u (by decide)
    obtain ⟨σ5, e5⟩ : ∃ x, x = ga_up σ3 fW_propertyKinds 0 p (ga_ior (σ3 fW_propertyKinds 0 p) (ga_ishl 1 K)) := ⟨_, rfl⟩
    obtain ⟨τ5, g5⟩ : ∃ x, x = ga_up τ4 fM_kindHas 0 (12 * K + p) 1 := ⟨_, rfl⟩
    rw [e_r_owner_106, ck_ok _ (by omega), ck_ok _ (by omega), d3.1 fR_kind0 (by decide), f02 fR_kind0 (by decide), hk, ← e5] at runC
    rw [d4.1 fM_properties (by decide), h2 fM_properties (by decide), ep', w32_ok (x := p + 1) (by omega), ← g4, e_m_doHas_81, w32_ok (x := 12 * K) (by omega), w32_ok (x := 12 * K + p) (by omega), ck_ok _ (by omega), ← g5] at runM
    have f5 : fr [fW_propertyKinds] σ3 σ5 := by rw [e5]; exact fr_u (by decide)
    have h5 : fr [fM_kindHas] τ4 τ5 := by rw [g5]; exact fr_u (by decide)
    have fC3 : fr ([fW_properties, fW_propertyTypes, fW_propertyKinds] ++ dicL ++ spL) σ σ3 := fr_trans (fr_sub f02 (by decide)) (fr_sub d3.1 (by decide))
    have fM4 : fr ([fM_properties, fM_propertyType] ++ lexL) τ τ4 := fr_trans (fr_sub h2 (by decide)) (fr_trans (fr_sub d4.1 (by decide)) (fr_sub f4 (by decide)))
    have fC : fr ([fW_properties, fW_propertyTypes, fW_propertyKinds] ++ dicL ++ spL) σ σ5 := fr_trans fC3 (fr_sub f5 (by decide))
    have fM : fr ([fM_properties, fM_propertyType, fM_kindHas] ++ lexL) τ τ5 := fr_trans (fr_sub fM4 (by decide)) (fr_sub h5 (by decide))
    have xt : ∀ i, σ3 fW_propertyTypes 0 i = if i = p then Y else σ fW_propertyTypes 0 i := by
      intro i; rw [d3.1 _ (by decide), e2, up_F (by decide), up_at, up_F (by decide), ac _ (by decide)]
    have xk : ∀ i, σ3 fW_propertyKinds 0 i = if i = p then 0 else σ fW_propertyKinds 0 i := by
      intro i; rw [d3.1 _ (by decide), e2, up_at, up_F (by decide), up_F (by decide), ac _ (by decide)]
    have xn : σ3 fW_properties 0 0 = p + 1 := by rw [d3.1 _ (by decide)]; exact c2
    have yt : ∀ i, τ4 fM_propertyType 0 i = if i = p then Y else τ fM_propertyType 0 i := by
      intro i; rw [f4 _ (by decide), d4.1 _ (by decide), g2, up_at]
    have yn : τ4 fM_properties 0 0 = p + 1 := by rw [g4, up_eq]
    have Wp3 : WKp σ3 τ4 := by
      refine ⟨by omega, by omega, by omega, fun i i0 i1 => ?_, fun k i k0 k1 i0 i1 => ?_⟩
      · rw [xt, yt, fC3 fW_types (by decide)]
        by_cases q : i = p
        · rw [if_pos q, if_pos q]; exact ⟨by omega, by omega, rfl⟩
        · rw [if_neg q, if_neg q]; exact Wp.2.2.2.1 i i0 (by omega)
      · rw [fC3 fW_kinds (by decide)] at k1
        rw [xk, fM4 fM_kindHas (by decide)]
        by_cases q : i = p
        · rw [if_pos q, bitI_0 k (by omega), q]; exact kb.2 k p k0 k1 (by omega) (by omega)
        · rw [if_neg q]; exact Wp.2.2.2.2 k i k0 k1 i0 (by omega)
    have kb3 : kb0 σ3 τ4 := by
      refine ⟨fun i k i0 i1 k0 k1 => ?_, fun k i k0 k1 i0 i1 => ?_⟩
      · rw [fC3 fW_kinds (by decide)] at k0
        rw [xk]
        by_cases q : i = p
        · rw [if_pos q]; exact bitI_0 k (by have := Wk.2.1; omega)
        · rw [if_neg q]; exact kb.1 i k i0 (by omega) k0 k1
      · rw [fC3 fW_kinds (by decide)] at k1
        rw [fM4 fM_kindHas (by decide)]; exact kb.2 k i k0 k1 (by omega) i1
    have hm := has_more (K := K) (P := p) Wp3 kb3 (by rw [fC3 fW_kinds (by decide)]; omega) (by rw [fC3 fW_kinds (by decide)]; omega) (by omega) e5 g5
    have D5 : DW σ5 τ5 g := DW_cm d5 (fr_mem f5 (by decide)) (fun F hF => by rw [fr_no f5 (M := cntL) (by decide) hF]; exact Int.le_refl _) (fun F hF => by rw [fr_no h5 (M := lexL) (by decide) hF, fr_no f4 (M := lexL) (by decide) hF]) (by
      have Bc := d5.2.2.2.2.1
      unfold cB at Bc ⊢
      rw [f5 fW_kinds (by decide), f5 fW_objects (by decide), f5 fW_values (by decide), f5 fW_types (by decide), f5 fW_actions (by decide), f5 fW_properties (by decide), f5 fW_adjectives (by decide), f5 fW_verbs (by decide), f5 fW_relations (by decide)]
      exact Bc)
    refine ⟨1, σ5, τ5, topC _ _ (Or.inr rfl) runC, topM _ runM, fr_sub fC (by decide), fr_sub fM (by decide), Or.inl ⟨by rw [fC _ (by decide)]; exact hf, by rw [fM _ (by decide)]; exact hb, ⟨WKk_f Wk (fr_mem fC (by decide)) (fr_mem fM (by decide)), WKo_f Wo (fr_mem fC (by decide)) (fr_mem fM (by decide)), WKa_f Wa (fr_mem fC (by decide)) (fr_mem fM (by decide)), WKt_f Wt (fr_mem fC (by decide)) (fr_mem fM (by decide)), WKv_f Wv (fr_mem fC (by decide)) (fr_mem fM (by decide)), hm.1, WKr_f Wr (fr_mem fC (by decide)) (fr_mem fM (by decide)), WKb_f Wb (fr_mem fC (by decide)) (fr_mem fM (by decide)), WKc_f Wc (fr_mem fC (by decide)) (fr_mem fM (by decide)), D5.2.1, D5.2.2.1⟩, ⟨RWt_f R5.1 (fr_mem fC (by decide)) (fr_mem fM (by decide)), RWh_prop R5.2.1 fC (by decide) (by rw [fC fT_size (by decide), fC fT_bytes (by decide)]; exact ⟨rfl, rfl⟩) fM (by decide) (by rw [f5 _ (by decide), xn, ← ep]; omega) (fun i i0 i1 => by rw [f5 _ (by decide), xt, if_neg (by omega)]), RWp_f R5.2.2.1 (fr_mem fC (by decide)) (fr_mem fM (by decide)), RWy_f R5.2.2.2.1 (fr_mem fC (by decide)) (fr_mem fM (by decide)), RWe_f R5.2.2.2.2 (fr_mem fC (by decide)) (fr_mem fM (by decide))⟩, D5, hm.2, tkS_g d6 f5 (by decide) (GC_g fC (by decide) (cnt_1 fC fW_properties (by decide) (by rw [f5 _ (by decide), xn, ← ep]; omega)) (Or.inl (by decide)) (by decide) (Or.inl (by decide)) (Or.inl (by decide)) (Or.inr (fun a a0 a1 => by
      rw [← ep] at a1
      rw [f5 _ (by decide), xt, if_neg (by omega), e5, up_i (show a ≠ p by omega), xk, if_neg (by omega)]
      exact ⟨rfl, fun _ _ _ y => y⟩)) (Or.inl (by decide)))⟩⟩
  · rw [if_neg z, ck_ok _ (by omega), ac fW_propertyTypes (by decide), ac fR_object0 (by decide), ho, ac fR_nameFrom (by decide)] at runC
    rw [if_neg z, ck_ok _ (by omega), (Wp.2.2.2.1 P (by omega) (by omega)).2.2, (show τ fM_runFrom 0 0 = f + σ fR_nameFrom 0 0 from R0.2.1)] at runM
    by_cases y : σ fW_propertyTypes 0 P = Y
    · obtain ⟨σ2, e2⟩ : ∃ x, x = ga_up σ1 fW_propertyKinds 0 P (ga_ior (σ1 fW_propertyKinds 0 P) (ga_ishl 1 K)) := ⟨_, rfl⟩
      obtain ⟨τ2, g2⟩ : ∃ x, x = ga_up τ fM_kindHas 0 (12 * K + P) 1 := ⟨_, rfl⟩
      rw [if_pos y, e_r_owner_106, ck_ok _ (by omega), ck_ok _ (by omega), ac fR_kind0 (by decide), hk, ← e2] at runC
      rw [if_pos y, e_m_doHas_81, w32_ok (x := 12 * K) (by omega), w32_ok (x := 12 * K + P) (by omega), ck_ok _ (by omega), ← g2] at runM
      have f2 : fr [fW_propertyKinds] σ1 σ2 := by rw [e2]; exact fr_u (by decide)
      have h2 : fr [fM_kindHas] τ τ2 := by rw [g2]; exact fr_u (by decide)
      have fC : fr (fW_propertyKinds :: spL) σ σ2 := fr_trans (fr_sub a2 (by decide)) (fr_sub f2 (by decide))
      have Wp1 : WKp σ1 τ := WKp_f Wp (fr_mem a2 (by decide)) (fun _ _ => rfl)
      have kb1 : kb0 σ1 τ := kb0_f kb (fr_mem a2 (by decide)) rfl
      have hm := has_more (K := K) (P := P) Wp1 kb1 (by rw [ac fW_kinds (by decide)]; omega) (by rw [ac fW_kinds (by decide)]; omega) (by rw [ac fW_properties (by decide)]; omega) e2 g2
      have D2 : DW σ2 τ2 g := DW_cm D (fr_mem fC (by decide)) (fun F hF => by rw [fr_no fC (M := cntL) (by decide) hF]; exact Int.le_refl _) (fr_mem h2 (by decide)) (by
        have Bc := D.2.2.2.2.1
        unfold cB at Bc ⊢
        rw [fC fW_kinds (by decide), fC fW_objects (by decide), fC fW_values (by decide), fC fW_types (by decide), fC fW_actions (by decide), fC fW_properties (by decide), fC fW_adjectives (by decide), fC fW_verbs (by decide), fC fW_relations (by decide)]
        exact Bc)
      refine ⟨1, σ2, τ2, topC _ _ (Or.inr rfl) runC, topM _ runM, fr_sub fC (by decide), fr_sub h2 (by decide), Or.inl ⟨by rw [fC _ (by decide)]; exact hf, by rw [h2 _ (by decide)]; exact hb, ⟨WKk_f Wk (fr_mem fC (by decide)) (fr_mem h2 (by decide)), WKo_f Wo (fr_mem fC (by decide)) (fr_mem h2 (by decide)), WKa_f Wa (fr_mem fC (by decide)) (fr_mem h2 (by decide)), WKt_f Wt (fr_mem fC (by decide)) (fr_mem h2 (by decide)), WKv_f Wv (fr_mem fC (by decide)) (fr_mem h2 (by decide)), hm.1, WKr_f Wr (fr_mem fC (by decide)) (fr_mem h2 (by decide)), WKb_f Wb (fr_mem fC (by decide)) (fr_mem h2 (by decide)), WKc_f Wc (fr_mem fC (by decide)) (fr_mem h2 (by decide)), D2.2.1, D2.2.2.1⟩, RW5_f R5 fC (by decide) (by rw [fC fT_size (by decide), fC fT_bytes (by decide)]; exact ⟨rfl, rfl⟩) h2 (by decide), D2, hm.2, tkS_g (tkS_r σ) fC (by decide) (GC_g fC (by decide) (fun F hF => by rw [fr_no fC (M := cntL) (by decide) hF]; exact Int.le_refl _) (Or.inl (by decide)) (by decide) (Or.inl (by decide)) (Or.inl (by decide)) (Or.inr (fun a a0 a1 => ?_)) (Or.inl (by decide)))⟩⟩
      rw [fC fW_propertyTypes (by decide)]
      refine ⟨rfl, fun k k0 k1 z' => ?_⟩
      by_cases c : a = P
      · rw [e2, c, up_eq, ac fW_propertyKinds (by decide), bitI_or _ K k (by omega) (by omega)]
        rw [c] at z'
        rw [z']; rfl
      · rw [e2, up_i c, ac fW_propertyKinds (by decide)]; exact z'
    · obtain ⟨σ2, c1, c2, c3, c4⟩ := k_otherwise (σ := σ1) (by rw [ac _ (by decide)]; exact hf) (t := σ fR_nameFrom 0 0) (by omega) (d := d) (by omega)
      obtain ⟨τ2, g1, g2, g3, g4⟩ := m_wrongA hb (t := f + σ fR_nameFrom 0 0) (why := 5) (by omega) (d := d) (by omega)
      rw [if_neg y, c1] at runC
      rw [if_neg y, g1] at runM
      have runC' : c_r_owner (d + 1) σ = some (0, σ2) := runC
      have runM' : c_m_doHas (d + 1) τ = some (0, τ2) := runM
      refine ⟨0, σ2, τ2, topC _ _ (Or.inl rfl) runC', topM _ runM', fr_trans (fr_sub a2 (by decide)) (fr_sub c2 (by decide)), fr_sub g2 (by decide), Or.inr ⟨c3, by rw [c4, ac _ (by decide)], g3, ?_⟩⟩
      rw [g4]
      exact (E2.2.1 (σ fR_nameFrom 0 0) t0.1 t0.2).2.2.2
end

/-! the check of sort 15 -/
theorem k0_ty (σ : ga_S) : (k0 σ) fR_isTyped 0 0 = 0 := by unfold k0; rw [up_F (by decide), up_eq]
theorem k0_de (σ : ga_S) : (k0 σ) fR_isDescribed 0 0 = 0 := by unfold k0; rw [up_F (by decide), up_F (by decide), up_eq]
section
variable {σ τ : ga_S} {f : Int} {N : Nat}
theorem ck_15_C {d : Nat} (hs : σ fR_sort 0 0 = 15) {ρ : ga_S} (h : c_r_checkPlain (d + 1) (k0 σ) = some (0, ρ)) : c_r_check (d + 2) σ = some (0, ρ) := by
  rw [e_r_check, hs]
  iterate 15 rw [if_neg (by decide)]
  rw [if_pos rfl]
  show ((c_r_checkPlain (d + 1) (k0 σ)).bind _) = _
  rw [h]
  rfl
theorem ck_15_M {d : Nat} (ht : τ fM_sort 0 0 = 15) {ρ : ga_S} {first : Int} (h : c_m_askFifteen (d + 1) (a0 τ) = some (0, ρ)) : c_m_asked (d + 2) τ first = some (0, ρ) := by
  rw [e_m_asked, ht]
  iterate 15 rw [if_neg (by decide)]
  rw [if_pos rfl]
  show ((c_m_askFifteen (d + 1) (a0 τ)).bind _) = _
  rw [h]
  rfl
theorem ck_15u (E : E0 σ τ f N) (hf : σ fR_fault 0 0 = 0) (hm : 2 * τ fM_runs 0 0 ≤ 5001) (hs : σ fR_sort 0 0 = 15) (ht : τ fM_sort 0 0 = 15) (H : vaH σ τ f) (hu : σ fR_usually 0 0 ≠ 0) (hu' : τ fM_isUsually 0 0 = σ fR_usually 0 0) {d : Nat} (hd : 7 ≤ d) (first : Int) : ∃ σ' τ' c, c_r_check (d + 2) σ = some (0, σ') ∧ c_m_asked (d + 2) τ first = some (0, τ') ∧ KC σ σ' ∧ KM τ τ' ∧ FT σ' c ∧ GT τ' c ∧ fr ksL σ σ' ∧ fr (a0L ++ fM_how :: fM_readAdjective :: (adM ++ ntM)) τ τ' ∧ (c = 1000000 → σ fR_names 0 0 = 1 ∧ dN σ (nN σ 0) 0 ≠ -1 ∧ aC σ (nR σ 0) (dN σ (nN σ 0) 0) false false = 1 ∧ σ' fR_kind0 0 0 = dN σ (nN σ 0) 0 ∧ σ' fR_foundAdjective 0 0 = dN σ (nR σ 0) 3 ∧ σ' fR_foundValue 0 0 = fvN σ (nR σ 0) false ∧ σ' fR_foundProperty 0 0 = aP σ (nR σ 0) (dN σ (nN σ 0) 0) false ∧ (∀ x, aL σ (nR σ 0) (dN σ (nN σ 0) 0) false false = [x] → τ' fM_readAdjective 0 0 = x) ∧ τ' fM_how 0 0 = 1 ∧ σ' fR_isTyped 0 0 = 0 ∧ σ' fR_isDescribed 0 0 = 0) := by
  obtain ⟨hn, ho, hn1, hl, hr, hwh, hr1, hrn, hC⟩ := H
  obtain ⟨K0, F0, _⟩ := k0_ok hf N
  obtain ⟨M0, G0, _⟩ := a0_ok σ τ f N
  have hLn := LST_n E hm hn ho
  have hn25 := hLn.1
  have hN5 := E.1.2.2.1
  have R0 : RU σ τ f N 0 (σ fR_nameFrom 0 0) (σ fR_nameTo 0 0) := (hLn.2.1 0 (Int.le_refl _) (by omega)).1
  have Rr : RU σ τ f N (σ fR_names 0 0) (σ fR_runFrom 0 0) (σ fR_runTo 0 0) := by
    have := RU_of E.1 (hr 0 (Int.le_refl _) (by omega)) (by omega)
    rw [Int.add_zero] at this
    exact this
  have tR := frB_t Rr.2.2.2
  have kf := k0_fr σ
  have af := a0_fr τ
  obtain ⟨A, eA⟩ : ∃ x, x = dN σ (nN σ 0) 0 := ⟨_, rfl⟩
  have eA' : dN σ (nmT σ (σ fR_nameFrom 0 0) (σ fR_nameTo 0 0)) 0 = A := eA.symm
  have rA := e0_dN E (nN σ 0) 0
  have m0 : mxN σ 0 = σ fW_kinds 0 0 := rfl
  rw [← eA] at rA ⊢
  obtain ⟨cA, ecA⟩ : ∃ x, x = min (min 1000000 (if A = -1 then cd σ (σ fR_nameFrom 0 0) 2 else 1000000)) (if 1 < σ fR_names 0 0 then cd σ (σ fR_nameFrom 0 1) 2 else 1000000) := ⟨_, rfl⟩
  -- the component
  obtain ⟨σ2, a1, a2, a3, a4⟩ := k_need E K0 F0 R0.2.2.2 (d := d) (by omega) 0
  rw [eA'] at a1 a4
  obtain ⟨σ3, e3⟩ : ∃ x, x = ga_up σ2 fR_kind0 0 0 A := ⟨_, rfl⟩
  have f3 : fr [fR_kind0] σ2 σ3 := by rw [e3]; exact fr_u (by decide)
  have K3 := KC_f a3 f3 (by decide)
  have F3 := FT_f a4 f3 (by decide)
  have le3 := FT_le F3
  have C2 : ∀ G, G ∉ ndL → G ∉ k0L → σ2 G = σ G := fun G x y => (a2 G x).trans (kf G y)
  obtain ⟨σ4, b1, b2, b3, b4⟩ : ∃ σ4, c_r_checkPlain (d + 1) (k0 σ) = r_checkPlain_61 d σ4 (σ fR_runFrom 0 0) (σ fR_runTo 0 0) ∧ KC σ σ4 ∧ FT σ4 cA ∧ fr ntL σ3 σ4 := by
    rw [e_r_checkPlain, kf fR_usually (by decide), if_neg hu, kf fR_nameFrom (by decide), kf fR_nameTo (by decide), a1]
    simp only [Option.bind_some]
    rw [C2 fR_names (by decide) (by decide), C2 fR_nameFrom (by decide) (by decide), ← e3, kf fR_runFrom (by decide), kf fR_runTo (by decide), ecA]
    by_cases z : 1 < σ fR_names 0 0
    · have t1 := frB_t (hLn.2.1 1 (by decide) z).1.2.2.2
      obtain ⟨σy, v1, v2, v3⟩ := k_note E.2.1 hN5 K3 F3 (t := σ fR_nameFrom 0 1) (r := 2) (why := 4) t1 (by omega) (by decide) (d := d) (by omega)
      rw [if_pos z, if_pos z, v1]
      exact ⟨σy, rfl, KC_f K3 v2 (by decide), v3, v2⟩
    · rw [if_neg z, if_neg z, Int.min_eq_left le3]
      exact ⟨σ3, rfl, K3, F3, fr_refl _ _⟩
  have ac4 : fr ksL σ σ4 := (fr_trans (fr_sub kf (by decide)) (fr_trans (fr_sub a2 (by decide)) (fr_trans (fr_sub f3 (by decide)) (fr_sub b4 (by decide)))))
  have k4 : σ4 fR_kind0 0 0 = A := by rw [b4 _ (by decide), e3, up_eq]
  -- the model
  obtain ⟨τ1, g1⟩ : ∃ x, x = ga_up (a0 τ) fM_how 0 0 1 := ⟨_, rfl⟩
  have h1 : fr [fM_how] (a0 τ) τ1 := by rw [g1]; exact fr_u (by decide)
  obtain ⟨τ2, u1, u2, u3, u4⟩ := m_kindOfRun E (KM_f M0 h1 (by decide)) (GT_f G0 h1 (by decide)) R0.2.2.2 R0.1 R0.2.1 R0.2.2.1 (d := d) (by omega)
  rw [eA'] at u1 u4
  have le2 := GT_le u4
  obtain ⟨τ3, n1, n2, n3, n4⟩ : ∃ τ3, c_m_askFifteen (d + 1) (a0 τ) = m_askFifteen_54 d τ3 (f + σ fR_runFrom 0 0) A ∧ KM τ τ3 ∧ GT τ3 cA ∧ fr ntM τ2 τ3 := by
    rw [e_m_askFifteen, af fM_what (by decide), hwh, ck_ok _ Rr.1, af fM_isUsually (by decide), hu', if_neg hu, ← g1, af fM_listFrom (by decide), hl.1, u1]
    simp only [Option.bind_some]
    rw [u3 fM_listSize (by decide), hl.2, af fM_runFrom (by decide), Rr.2.1, show w32 ((0 : Int) + 1) = 1 from by decide, u3 fM_runFrom (by decide), ecA]
    by_cases z : 1 < σ fR_names 0 0
    · have R1 := (hLn.2.1 1 (by decide) z).1
      have t1 := frB_t R1.2.2.2
      have R1f : τ fM_runFrom 0 1 = f + σ fR_nameFrom 0 1 := R1.2.1
      obtain ⟨τy, v1, v2, v3⟩ := m_note E.2.1 ⟨E.1.1, E.1.2.1⟩ u3 u4 (t := σ fR_nameFrom 0 1) (t' := f + σ fR_nameFrom 0 1) (r := 2) (why := 4) t1 rfl (by omega) (by decide) (d := d) (by omega)
      rw [if_pos z, if_pos z, ck_ok _ (by decide), R1f, v1]
      exact ⟨τy, rfl, KM_f u3 v2 (by decide), v3, v2⟩
    · rw [if_neg z, if_neg z, Int.min_eq_left le2]
      exact ⟨τ2, rfl, u3, u4, fr_refl _ _⟩
  have fr3 : fr (a0L ++ fM_how :: fM_readAdjective :: (adM ++ ntM)) τ τ3 := fr_trans (fr_sub af (by decide)) (fr_trans (fr_sub h1 (by decide)) (fr_trans (fr_sub u2 (by decide)) (fr_sub n4 (by decide))))
  have how3 : τ3 fM_how 0 0 = 1 := by rw [n4 _ (by decide), u2 _ (by decide), g1, up_eq]
  by_cases z : A = -1
  · have c0 := cd_r E.2.1 (frB_t R0.2.2.2) (r := 2) (by omega)
    refine ⟨σ4, τ3, cA, ck_15_C hs (by rw [b1, e_r_checkPlain_61, k4, if_pos z]), ck_15_M ht (by rw [n1, e_m_askFifteen_54, if_pos z]), b2, n2, b3, n3, ac4, fr3, fun y => ?_⟩
    rw [if_pos z] at ecA
    omega
  · obtain ⟨σ5, x1, x2, x3, x4, x5, x6⟩ := k_adjective E b2 Rr.2.2.2 (kind := A) (by omega) false false (d := d) (by omega)
    have x1' : c_r_adjective d σ4 (σ fR_runFrom 0 0) (σ fR_runTo 0 0) A 0 0 = some (aC σ (nR σ 0) A false false, σ5) := x1
    obtain ⟨σ6, y1, y2, y3, y4⟩ := k_needDescription E x3 (FT_f b3 x2 (by decide)) tR (aC σ (nR σ 0) A false false) (d := d) (by omega)
    obtain ⟨τ4, o1, o2, o3, o4⟩ := m_adjective E n2 Rr.2.2.2 Rr.2.1 Rr.2.2.1 (kind := A) (by omega) false true (d := d) (by omega)
    obtain ⟨l, el⟩ : ∃ x, x = aL σ (nmT σ (σ fR_runFrom 0 0) (σ fR_runTo 0 0)) A (!true) false := ⟨_, rfl⟩
    rw [← el] at o1 o4
    have el' : l = aL σ (nR σ 0) A false false := el
    obtain ⟨n, en⟩ : ∃ x : Int, x = (l.length : Int) := ⟨_, rfl⟩
    rw [← en, Rr.2.1, Rr.2.2.1] at o1
    have o1' : c_m_adjective d τ3 (f + σ fR_runFrom 0 0) (σ fR_runTo 0 0 - σ fR_runFrom 0 0) A 0 1 = some (n, τ4) := o1
    obtain ⟨τ5, τ6, p1, p2, p3, p4, p5, p6⟩ := m_two E o3 (GT_f n3 o2 (by decide)) (a := σ fR_runFrom 0 0) (t := f + σ fR_runFrom 0 0) (n := n) tR rfl (by omega) (d := d) (by omega)
    obtain ⟨τ7, e7⟩ : ∃ x, x = ga_up τ6 fM_readAdjective 0 0 (τ6 fM_foundAdjective 0 0) := ⟨_, rfl⟩
    have f7 : fr [fM_readAdjective] τ6 τ7 := by rw [e7]; exact fr_u (by decide)
    have eqc : cnC σ (σ fR_runFrom 0 0) (aC σ (nR σ 0) A false false) = cnC σ (σ fR_runFrom 0 0) n := by
      rw [en, el']; exact cnC_eq (aC_L E (nR σ 0) A false false).1
    have s106 : m_askFifteen_106 d τ5 (f + σ fR_runFrom 0 0) (if n < 2 then 1 else 0) = some (0, τ7) := by
      rw [e_m_askFifteen_106, p2]
      simp only [Option.bind_some]
      rw [← e7]
    have s89 : m_askFifteen_89 d τ4 (f + σ fR_runFrom 0 0) n (if 0 < n then 1 else 0) = some (0, τ7) := by
      rw [e_m_askFifteen_89, p1]
      simp only [Option.bind_some]
      rw [if_app (m_askFifteen_106 d τ5 (f + σ fR_runFrom 0 0)), s106]
    refine ⟨σ6, τ7, _, ck_15_C hs ?_, ck_15_M ht ?_, y3, KM_f p4 f7 (by decide), y4, by rw [eqc]; exact GT_f p5 f7 (by decide), fr_trans ac4 (fr_trans (fr_sub x2 (by decide)) (fr_sub y2 (by decide))), fr_trans fr3 (fr_trans (fr_sub o2 (by decide)) (fr_trans (fr_sub p3 (by decide)) (fr_sub f7 (by decide)))), fun y => ?_⟩
    · rw [b1, e_r_checkPlain_61, k4, if_neg z, x1']
      simp only [Option.bind_some]
      rw [y1]
      rfl
    · rw [n1, e_m_askFifteen_54, if_neg z, n2 fM_what (by decide), hwh, ck_ok _ Rr.1, n2 fM_runSize (by decide), Rr.2.2.1, o1']
      simp only [Option.bind_some]
      rw [if_app (m_askFifteen_89 d τ4 (f + σ fR_runFrom 0 0) n), s89]
    · have z1 := no_min rfl y (by have := FT_le b3; omega)
      have a1c := cnC_u E tR z1.2
      have nm1 : σ fR_names 0 0 = 1 := by
        refine Classical.byContradiction fun q => ?_
        have t1 : 0 ≤ σ fR_nameFrom 0 1 ∧ σ fR_nameFrom 0 1 ≤ N := frB_t (hLn.2.1 1 (by decide) (by omega)).1.2.2.2
        have c1 := cd_r E.2.1 t1 (r := 2) (by omega)
        rw [if_pos (show 1 < σ fR_names 0 0 by omega)] at ecA
        omega
      refine ⟨nm1, z, a1c, by rw [y2 _ (by decide), x2 _ (by decide)]; exact k4, by rw [y2 _ (by decide)]; exact x4, by rw [y2 _ (by decide)]; exact x5, by rw [y2 _ (by decide)]; exact x6, fun x hx => ?_, by rw [f7 _ (by decide), p3 _ (by decide), o2 _ (by decide)]; exact how3, by rw [y2 _ (by decide), x2 _ (by decide), b4 _ (by decide), f3 _ (by decide), a2 _ (by decide)]; exact k0_ty σ, by rw [y2 _ (by decide), x2 _ (by decide), b4 _ (by decide), f3 _ (by decide), a2 _ (by decide)]; exact k0_de σ⟩
      rw [← el'] at hx
      have := o4 (by rw [hx]; simp)
      rw [e7, up_eq, p3 _ (by decide), this, hx]
      rfl
theorem ck_15v (E : E0 σ τ f N) (hf : σ fR_fault 0 0 = 0) (hm : 2 * τ fM_runs 0 0 ≤ 5001) (hs : σ fR_sort 0 0 = 15) (ht : τ fM_sort 0 0 = 15) (H : vaH σ τ f) (hu : σ fR_usually 0 0 = 0) (hu' : τ fM_isUsually 0 0 = σ fR_usually 0 0) (hnt : σ fR_not 0 0 = 0) (hnt' : τ fM_isNot 0 0 = 0) (h1 : σ fR_names 0 0 = 1) (hT : 2 ≤ tyN σ (nN σ 0)) {d : Nat} (hd : 8 ≤ d) (first : Int) : ∃ σ' τ' c, c_r_check (d + 2) σ = some (0, σ') ∧ c_m_asked (d + 2) τ first = some (0, τ') ∧ KC σ σ' ∧ KM τ τ' ∧ FT σ' c ∧ GT τ' c ∧ fr ksL σ σ' ∧ fr (a0L ++ fM_how :: mbN) τ τ' ∧ (c = 1000000 → tyN σ (nN σ 0) < σ fW_types 0 0 ∧ σ' fR_kind0 0 0 = tyN σ (nN σ 0) ∧ σ' fR_isTyped 0 0 = 1 ∧ τ' fM_how 0 0 = 2 ∧ ∀ j, 0 ≤ j → j < σ fR_runs 0 0 → nB σ (wC σ j) ((rg 0 j).map (wC σ)) = true ∧ σ fW_typeValues 0 (tyN σ (nN σ 0)) + j < 8) := by
  obtain ⟨K0, F0, _⟩ := k0_ok hf N
  obtain ⟨M0, G0, _⟩ := a0_ok σ τ f N
  have H' := H
  obtain ⟨hn, ho, hn1, hl, hr, hwh, hr1, hrn, hC⟩ := H
  have hLn := LST_n E hm hn ho
  have R0 : RU σ τ f N 0 (σ fR_nameFrom 0 0) (σ fR_nameTo 0 0) := (hLn.2.1 0 (Int.le_refl _) (by omega)).1
  have kf := k0_fr σ
  have af := a0_fr τ
  obtain ⟨e, rfl⟩ : ∃ e, d = e + 1 := ⟨d - 1, by omega⟩
  obtain ⟨σ1, x1, x2, x3⟩ := k_typeNamed E K0 R0.2.2.2 (d := e + 1) (by omega)
  have eT : tyN σ (nmT σ (σ fR_nameFrom 0 0) (σ fR_nameTo 0 0)) = tyN σ (nN σ 0) := rfl
  rw [eT] at x1
  obtain ⟨σ', τ0', c0, a1, _, a3, _, a5, _, _, _, _⟩ := vals_ck E hf hm H' (Or.inl ⟨h1, hT⟩) x2 (v := tyN σ (nN σ 0)) (by rw [if_pos h1]) (d := e) (by omega)
  obtain ⟨σ2', τ', c, b1, b2, b3, b4, b5, b6, b7, b8, b9⟩ := vals_ck E hf hm H' (Or.inl ⟨h1, hT⟩) x2 (v := tyN σ (nN σ 0)) (by rw [if_pos h1]) (d := e + 1) (by omega)
  have es : σ' = σ2' := by
    have m := (am_mono (e := e + 2) a1 (by omega)).symm.trans (am_mono (e := e + 2) b1 (by omega))
    injection m with m; injection m
  refine ⟨σ2', τ', c, ck_15_C hs ?_, ck_15_M ht ?_, b3, b4, b5, b6, (fr_trans (fr_sub kf (by decide)) (fr_trans (fr_sub x2 (by decide)) (fr_sub b7 (by decide)))), fr_trans (fr_sub af (by decide)) (fr_sub b8 (by decide)), fun z => ?_⟩
  · rw [e_r_checkPlain, kf fR_usually (by decide), if_pos hu, kf fR_not (by decide), if_pos hnt, kf fR_names (by decide), if_pos h1, kf fR_nameFrom (by decide), kf fR_nameTo (by decide), x1]
    simp only [Option.bind_some]
    rw [if_pos (by omega), a1, es]
    rfl
  · rw [e_m_askFifteen, af fM_what (by decide), hwh, ck_ok _ (by omega), af fM_isUsually (by decide), hu', if_pos hu, af fM_listSize (by decide), hl.2, if_pos h1, af fM_listFrom (by decide), hl.1, m_typeOrPlural E M0 R0 (by omega)]
    simp only [Option.bind_some]
    rw [eT, e_m_askFifteen_140, af fM_sort (by decide), if_neg (by omega), if_pos (by omega), af fM_isNot (by decide), if_pos hnt', b2]
  · exact (b9 z).2.2
end

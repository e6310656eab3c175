/-! checks of the sorts 17, 7 -/
theorem lshr55 {w : Int} (hw : 0 ≤ w) (hw2 : w < 1152921504606846976) : ga_lcmp (ga_lshr w 55) 0 = 0 ↔ w < 36028797018963968 := by
  have e : ga_lshr w 55 = w / 36028797018963968 := by
    unfold ga_lshr
    rw [show (Int32.ofInt 55).toInt64 &&& 63 = (55 : Int64) by decide]
    show (BitVec.sshiftRight (Int64.ofInt w).toBitVec (((55 : Int64).toBitVec.smod 64).toNat)).toInt = _
    rw [show ((55 : Int64).toBitVec.smod 64).toNat = 55 by decide, BitVec.toInt_sshiftRight]
    have t : (Int64.ofInt w).toBitVec.toInt = w := by
      show (Int64.ofInt w).toInt = w
      rw [Int64.toInt_ofInt_of_le (by omega) (by omega)]
    rw [t, Int.shiftRight_eq_div_pow]
    rfl
  rw [e]
  unfold ga_lcmp
  by_cases c : w < 36028797018963968
  · rw [if_neg (by omega), if_pos (by omega)]; simp [c]
  · rw [if_neg (by omega), if_neg (by omega)]
    constructor
    · intro z; omega
    · intro z; omega
theorem dS_1 {σ τ : ga_S} (h : RD σ τ) (nm : List Int) : (dS σ nm = -1 ↔ fnd σ nm 0 = -1) ∧ ∀ s : Int, s ≠ -1 → (dS σ nm = s ↔ dN σ nm s ≠ -1) := by
  unfold dS dN
  by_cases c : fnd σ nm 0 = -1
  · rw [if_pos c]
    refine ⟨by simp [c], fun s hs => ?_⟩
    rw [if_pos (Or.inl c)]
    constructor
    · intro z; omega
    · intro z; omega
  · rw [if_neg c]
    have f := (fnd_r (σ := σ) (nm := nm) (Int.le_refl 0)).resolve_left c
    have a := h.2.2.2.2.2.2.2 _ ⟨f.1, f.2.1, f.2.2.1⟩
    refine ⟨⟨fun z => absurd z f.2.2.1, fun z => absurd z c⟩, fun s hs => ?_⟩
    by_cases q : σ fD_sorts 0 (fnd σ nm 0) = s
    · rw [if_neg (by simp [c, q])]
      exact ⟨fun _ => by omega, fun _ => q⟩
    · rw [if_pos (Or.inr q)]
      exact ⟨fun z => absurd z q, fun z => absurd rfl z⟩
theorem ck_17 {σ τ : ga_S} {f : Int} {N : Nat} (E : E0 σ τ f N) (hf : σ fR_fault 0 0 = 0) (hm : τ fM_runs 0 0 ≤ 2600) (hs : σ fR_sort 0 0 = 17) (ht : τ fM_sort 0 0 = 17) (n0 : nn σ τ f 0 0) (r0 : rr σ τ f 0 1) (r1 : rr σ τ f 1 2) {d : Nat} (hd : 8 ≤ d) (first : Int) : ckX σ τ (c_r_check d σ) (c_m_asked d τ first) (fun σ' _ => σ' fR_kind0 0 0 = dN σ (nN σ 0) 0 ∧ dN σ (nN σ 0) 0 ≠ -1 ∧ σ' fR_object0 0 0 = tyN σ (nR σ 0) ∧ tyN σ (nR σ 0) ≠ -1 ∧ ((fnd σ (nR σ 1) 0 = -1 ∧ nB σ (wC σ 1) [] = true ∧ σ fW_properties 0 0 < 12) ∨ dN σ (nR σ 1) 5 ≠ -1)) := by
  obtain ⟨d, rfl⟩ : ∃ e, d = e + 1 := ⟨d - 1, by omega⟩
  obtain ⟨e, rfl⟩ : ∃ e, d = e + 1 := ⟨d - 1, by omega⟩
  obtain ⟨K1, F1, O1, q1, S1, _⟩ := k0_ok hf N
  obtain ⟨M1, G1, Q1, p1, T1, _⟩ := a0_ok σ τ f N
  have R0 := RU_of E.1 n0 hm
  have R1 := RU_of E.1 r0 hm
  have R2 := RU_of E.1 r1 hm
  have t0 := frB_t R0.2.2.2
  have t1 := frB_t R1.2.2.2
  have t2 := frB_t R2.2.2.2
  have wp := e0_p E
  have D := dS_1 E.2.2.1 (nR σ 1)
  obtain ⟨c3, ec3⟩ : ∃ x : Int, x = (if fnd σ (nR σ 1) 0 = -1 then nwCd σ (nB σ (wC σ 1) []) (σ fW_properties 0 0) 12 (σ fR_runFrom 0 1) else if dN σ (nR σ 1) 5 = -1 then cd σ (σ fR_runFrom 0 1) 2 else 1000000) := ⟨_, rfl⟩
  -- the component
  obtain ⟨σ2, a1, a2, a3, a4⟩ := k_need E K1 F1 R0.2.2.2 (d := e) (by omega) 0
  obtain ⟨σ3, e3⟩ : ∃ x, x = ga_up σ2 fR_kind0 0 0 (dN σ (nN σ 0) 0) := ⟨_, rfl⟩
  have f3 : fr [fR_kind0] σ2 σ3 := by rw [e3]; exact fr_u (by decide)
  obtain ⟨σ4, b1, b2, b3⟩ := k_typeNamed E (KC_f a3 f3 (by decide)) R1.2.2.2 (d := e) (by omega)
  obtain ⟨σ5, e5⟩ : ∃ x, x = ga_up σ4 fR_object0 0 0 (tyN σ (nR σ 0)) := ⟨_, rfl⟩
  have f5 : fr [fR_object0] σ4 σ5 := by rw [e5]; exact fr_u (by decide)
  have K5 := KC_f b3 f5 (by decide)
  have F5 := FT_f (FT_f (FT_f a4 f3 (by decide)) b2 (by decide)) f5 (by decide)
  have f15 : fr (fR_object0 :: fR_kind0 :: ndL) (k0 σ) σ5 := fr_trans (fr_sub a2 (by decide)) (fr_trans (fr_sub f3 (by decide)) (fr_trans (fr_sub b2 (by decide)) (fr_sub f5 (by decide))))
  have nt : ∃ σ6, (if tyN σ (nR σ 0) = -1 then (c_r_note e σ5 4 (σ fR_runFrom 0 0)).bind (fun q3 => r_checkHas_60 e q3.2) else r_checkHas_60 e σ5) = r_checkHas_60 e σ6 ∧ fr ntL σ5 σ6 ∧ FT σ6 (min (min 1000000 (if dN σ (nN σ 0) 0 = -1 then cd σ (σ fR_nameFrom 0 0) 2 else 1000000)) (if tyN σ (nR σ 0) = -1 then cd σ (σ fR_runFrom 0 0) 2 else 1000000)) := by
    by_cases q : tyN σ (nR σ 0) = -1
    · obtain ⟨σ6, g1, g2, g3⟩ := k_note E.2.1 E.1.2.2.1 K5 F5 (t := σ fR_runFrom 0 0) (r := 2) (why := 4) t1 (by omega) (by decide) (d := e) (by omega)
      rw [if_pos q, if_pos q, g1]
      exact ⟨σ6, rfl, g2, g3⟩
    · rw [if_neg q, if_neg q]
      refine ⟨σ5, rfl, fr_refl _ _, ?_⟩
      rw [show ∀ x : Int, min (min 1000000 x) 1000000 = min 1000000 x from fun x => by omega]
      exact F5
  obtain ⟨σ6, g1, g2, g3⟩ := nt
  have f16 : fr (fR_object0 :: fR_kind0 :: ndL) (k0 σ) σ6 := fr_trans f15 (fr_sub g2 (by decide))
  have K6 := KC_f K5 g2 (by decide)
  obtain ⟨σ7, h1, h2, h3⟩ := k_spell E K6 R2.2.2.2 (d := e) (by omega)
  have K7 := KC_f K6 h2 (by decide)
  have F7 := FT_f g3 h2 (by decide)
  have f17 : fr (fR_object0 :: fR_kind0 :: ndL) (k0 σ) σ7 := fr_trans f16 (fr_sub h2 (by decide))
  have O7 : nwO σ N σ7 := by unfold nwO; rw [f17 _ (by decide), f17 _ (by decide), f17 _ (by decide)]; exact O1
  have S7 : nwC σ σ7 = [] := by rw [← S1]; unfold nwC; rw [f17 _ (by decide), f17 _ (by decide), f17 _ (by decide)]
  have q7 : σ7 fR_newNames 0 0 = 0 := by rw [f17 _ (by decide)]; exact q1
  have rf : σ7 fR_runFrom = σ fR_runFrom := (f17 _ (by decide)).trans (k0_fr σ _ (by decide))
  have rt : σ7 fR_runTo = σ fR_runTo := (f17 _ (by decide)).trans (k0_fr σ _ (by decide))
  have last : ∃ σ8, r_checkHas_60 e σ6 = some (0, σ8) ∧ fr nwL σ7 σ8 ∧ KC σ σ8 ∧ FT σ8 (min (min (min 1000000 (if dN σ (nN σ 0) 0 = -1 then cd σ (σ fR_nameFrom 0 0) 2 else 1000000)) (if tyN σ (nR σ 0) = -1 then cd σ (σ fR_runFrom 0 0) 2 else 1000000)) c3) := by
    have le := FT_le F7
    rw [e_r_checkHas_60, show σ6 fR_runFrom = σ fR_runFrom from (f16 _ (by decide)).trans (k0_fr σ _ (by decide)), show σ6 fR_runTo = σ fR_runTo from (f16 _ (by decide)).trans (k0_fr σ _ (by decide)), h1]
    simp only [Option.bind_some]
    rw [k_sort E K7 h3 (by omega)]
    simp only [Option.bind_some]
    show ∃ σ8, (if dS σ (nR σ 1) = -1 then _ else _) = _ ∧ _
    by_cases z1 : fnd σ (nR σ 1) 0 = -1
    · obtain ⟨σ8, i1, i2, i3, i4, _⟩ := k_isNew E K7 F7 O7 (by omega) R2.2.2.2 (σ fW_properties 0 0) 12 (d := e) (by omega)
      rw [S7] at i4
      rw [if_pos (D.1.mpr z1), rf, rt, show σ7 fW_properties = σ fW_properties from K7.1 _ (by decide), i1]
      rw [if_pos z1] at ec3
      rw [ec3]
      exact ⟨σ8, rfl, i2, i3, i4⟩
    · rw [if_neg (fun z => z1 (D.1.mp z))]
      rw [if_neg z1] at ec3
      by_cases z2 : dN σ (nR σ 1) 5 = -1
      · obtain ⟨σ8, i1, i2, i3⟩ := k_note E.2.1 E.1.2.2.1 K7 F7 (t := σ fR_runFrom 0 1) (r := 2) (why := 4) t2 (by omega) (by decide) (d := e) (by omega)
        rw [if_pos z2] at ec3
        rw [if_neg (c := dS σ (nmT σ (σ fR_runFrom 0 1) (σ fR_runTo 0 1)) = 5) (fun z => (D.2 5 (by decide)).mp z z2), rf, i1, ec3]
        exact ⟨σ8, rfl, fr_sub i2 (by decide), KC_f K7 i2 (by decide), i3⟩
      · rw [if_neg z2] at ec3
        rw [if_pos (c := dS σ (nmT σ (σ fR_runFrom 0 1) (σ fR_runTo 0 1)) = 5) ((D.2 5 (by decide)).mpr z2), ec3]
        refine ⟨σ7, rfl, fr_refl _ _, K7, ?_⟩
        rw [show ∀ x : Int, x ≤ 1000000 → min x 1000000 = x from fun x h => by omega]
        · exact F7
        · exact le
  obtain ⟨σ8, i1, i2, i3, i4⟩ := last
  have hC : c_r_check (e + 1 + 1) σ = some (0, σ8) := by
    rw [e_r_check, hs]
    iterate 17 rw [if_neg (by decide)]
    rw [if_pos rfl]
    show ((c_r_checkHas (e + 1) (k0 σ)).bind _) = _
    rw [e_r_checkHas, k0_fr σ fR_nameFrom (by decide), k0_fr σ fR_nameTo (by decide), a1]
    simp only [Option.bind_some]
    rw [show ga_up σ2 fR_kind0 0 0 (dN σ (nmT σ (σ fR_nameFrom 0 0) (σ fR_nameTo 0 0)) 0) = σ3 from e3.symm, a2 fR_runFrom (by decide), a2 fR_runTo (by decide), k0_fr σ fR_runFrom (by decide), k0_fr σ fR_runTo (by decide), b1]
    simp only [Option.bind_some]
    rw [show ga_up σ4 fR_object0 0 0 (tyN σ (nmT σ (σ fR_runFrom 0 0) (σ fR_runTo 0 0))) = σ5 from e5.symm, b2 fR_runFrom (by decide), f3 fR_runFrom (by decide), a2 fR_runFrom (by decide), k0_fr σ fR_runFrom (by decide)]
    rw [i1] at g1
    have g1' : (if tyN σ (nmT σ (σ fR_runFrom 0 0) (σ fR_runTo 0 0)) = -1 then (c_r_note e σ5 4 (σ fR_runFrom 0 0)).bind (fun q3 => r_checkHas_60 e q3.2) else r_checkHas_60 e σ5) = some (0, σ8) := g1
    rw [g1']
    rfl
  -- the model
  obtain ⟨τ2, m1, m2, m3, m4⟩ := m_kindOfRun E M1 G1 R0.2.2.2 R0.1 R0.2.1 R0.2.2.1 (d := e + 1) (by omega)
  obtain ⟨τ3, n1, n2, n3, n4⟩ := m_needI E m3 m4 (tyN σ (nR σ 0) = -1) t1 R1.2.1 (r := 2) (why := 4) (by omega) (by decide) (d := e + 1) (by omega)
  have f23 : fr ntM (a0 τ) τ3 := fr_trans m2 n2
  have Q3 : nwQ σ τ f N τ3 := by unfold nwQ; rw [f23 _ (by decide), f23 _ (by decide)]; exact Q1
  have T3 : nwM σ τ f τ3 = [] := by rw [← T1]; unfold nwM; rw [f23 _ (by decide), f23 _ (by decide)]
  have p3 : τ3 fM_news 0 0 = 0 := by rw [f23 _ (by decide)]; exact p1
  have lastM : ∃ τ4, m_asked_348 (e + 1) τ2 (if tyN σ (nR σ 0) = -1 then 0 else 1) = some (0, τ4) ∧ fr mbN τ3 τ4 ∧ KM τ τ4 ∧ GT τ4 (min (min (min 1000000 (if dN σ (nN σ 0) 0 = -1 then cd σ (σ fR_nameFrom 0 0) 2 else 1000000)) (if tyN σ (nR σ 0) = -1 then cd σ (σ fR_runFrom 0 0) 2 else 1000000)) c3) := by
    rw [e_m_asked_348, m3 fM_runFrom (by decide), n1]
    simp only [Option.bind_some]
    rw [m_meansNothing E n3 R2 (by omega)]
    simp only [Option.bind_some]
    show ∃ τ4, (if b2i (decide (fnd σ (nR σ 1) 0 = -1)) = 0 then _ else _) = _ ∧ _
    by_cases z1 : fnd σ (nR σ 1) 0 = -1
    · obtain ⟨τ4, o1, o2, o3, o4, _⟩ := m_mustBeNew E n3 n4 Q3 (by omega) R2 (σ fW_properties 0 0) 12 (d := e + 1) (by omega)
      rw [T3] at o4
      rw [decide_eq_true z1, if_neg b2i_n, show τ3 fM_properties 0 0 = σ fW_properties 0 0 by rw [n3 _ (by decide)]; exact wp.2.2.1, o1]
      rw [if_pos z1] at ec3
      rw [ec3]
      exact ⟨τ4, rfl, o2, o3, o4⟩
    · rw [if_neg z1] at ec3
      rw [decide_eq_false z1, if_pos b2i_f, m_meansRun E n3 R2.2.2.2 R2.1 R2.2.1 R2.2.2.1 (by omega), mN_dN (s := 5) (by omega)]
      simp only [Option.bind_some]
      obtain ⟨τ4, o1, o2, o3, o4⟩ := m_needI E n3 n4 (dN σ (nR σ 1) 5 = -1) t2 R2.2.1 (r := 2) (why := 4) (by omega) (by decide) (d := e + 1) (by omega)
      rw [if_app (m_asked_397 (e + 1) τ3), e_m_asked_397, n3 fM_runFrom (by decide)]
      rw [ec3]
      refine ⟨τ4, ?_, fr_sub o2 (by decide), o3, o4⟩
      show ((c_m_need (e + 1) τ3 (if dN σ (nR σ 1) 5 = -1 then 0 else 1) 4 (τ fM_runFrom 0 2)).bind _) = _
      rw [o1]; rfl
  obtain ⟨τ4, o1, o2, o3, o4⟩ := lastM
  have hM : c_m_asked (e + 1 + 1) τ first = some (0, τ4) := by
    rw [e_m_asked, ht]
    iterate 17 rw [if_neg (by decide)]
    rw [if_pos rfl]
    show ((c_m_kindOfRun (e + 1) (a0 τ) _).bind _) = _
    rw [m1]
    simp only [Option.bind_some]
    rw [m_typeOrPlural E m3 R1 (by omega)]
    simp only [Option.bind_some]
    rw [if_app (m_asked_348 (e + 1) τ2)]
    exact o1
  refine ⟨σ8, τ4, _, hC, hM, i3, o3, i4, o4, (fr_trans (fr_sub (k0_fr σ) (by decide)) (fr_trans (fr_sub f17 (by decide)) (fr_sub i2 (by decide)))), (fr_trans (fr_sub (a0_fr τ) (by decide)) (fr_trans (fr_sub f23 (by decide)) (fr_sub o2 (by decide)))), fun z => ?_⟩
  have z1 := no_min rfl z (GT_le n4)
  have z2 := no_min rfl z1.1 (GT_le m4)
  have z3 := no_min rfl z2.1 (Int.le_refl _)
  refine ⟨?_, no_if z3.2 (cd_r E.2.1 t0 (by omega)).2, ?_, no_if z2.2 (cd_r E.2.1 t1 (by omega)).2, ?_⟩
  · rw [i2 _ (by decide), h2 _ (by decide), g2 _ (by decide), f5 _ (by decide), b2 _ (by decide), e3, up_eq]
  · rw [i2 _ (by decide), h2 _ (by decide), g2 _ (by decide), e5, up_eq]
  · have y := z1.2
    rw [ec3] at y
    by_cases w1 : fnd σ (nR σ 1) 0 = -1
    · rw [if_pos w1] at y
      have v := nwCd_1 E.2.1 t2 y
      exact Or.inl ⟨w1, v.1, v.2⟩
    · rw [if_neg w1] at y
      exact Or.inr (no_if y (cd_r E.2.1 t2 (by omega)).2)

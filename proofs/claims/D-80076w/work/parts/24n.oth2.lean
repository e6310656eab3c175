/-! the .. of .. is ..; lists -/
theorem os_9 {σ τ : ga_S} {f : Int} {N : Nat} (H : stH σ τ f N) {d : Nat} (hd : 4 ≤ d) (hk : 1 ≤ (N : Int)) : osA σ τ f N ((c_r_run d (ga_up (ga_up σ fR_sort 0 0 9) fR_p 0 0 1)).bind fun q30 =>
                      (c_r_take d q30.2 16).bind fun q31 =>
                        (c_r_nameOfList d q31.2).bind fun q32 =>
                          (c_r_be d q32.2).bind fun q33 =>
                            (c_r_what d q33.2).bind fun q34 =>
                              some (0, q34.2)) ((c_m_run d (ga_up (ga_up τ fM_sort 0 0 9) fM_at 0 0 (w32 ((τ fM_at 0 0) + 1)))).bind fun q6 =>
        (c_m_take d q6.2 107).bind fun q7 =>
          (c_m_name0 d q7.2).bind fun q8 =>
            (c_m_be d q8.2).bind fun q9 =>
              (c_m_what d q9.2).bind fun q10 =>
                some (0, q10.2)) := by
  obtain ⟨hE, hP, hJ, hb, hp, hr, _⟩ := H
  have hf := hE.1
  have hN := hE.2.1
  have hN5 := hE.2.2.1
  have ok := PR_ok hP hb
  rw [w32_ok (by omega)]
  obtain ⟨σ1, e1⟩ : ∃ x, x = ga_up (ga_up σ fR_sort 0 0 9) fR_p 0 0 1 := ⟨_, rfl⟩
  obtain ⟨τ1, e2⟩ : ∃ x, x = ga_up (ga_up τ fM_sort 0 0 9) fM_at 0 0 (τ fM_at 0 0 + 1) := ⟨_, rfl⟩
  rw [← e1, ← e2]
  have f1 : fr [fR_sort, fR_p] σ σ1 := by rw [e1]; exact fr_trans (fr_u (by decide)) (fr_u (by decide))
  have g1 : fr [fM_sort, fM_at] τ τ1 := by rw [e2]; exact fr_trans (fr_u (by decide)) (fr_u (by decide))
  obtain ⟨E1, P1, J1⟩ := ST_mv hE hP hJ hb (n := 1) (by omega) (by omega) f1 g1 (by decide) (by decide) (by rw [e1, up_eq]; omega) (by rw [e2, up_eq])
  obtain ⟨r2, σ2, τ2, c2, m2, Q2, G2⟩ := S_run E1 P1 J1 (d := d) (by omega)
  have E2 := SQ_E Q2 E1
  obtain ⟨v3, σ3, τ3, c3, m3, Q3, f3, g3, _⟩ := S_take E2 Q2.1 Q2.2.1 (d := d) (by omega) (c := 16) (m := 107) (by decide) (by decide) (by decide) (by decide)
  have E3 := SQ_E Q3 E2
  have nz : σ3 fR_names 0 0 = 0 := by rw [f3 _ (by decide), Q2.2.2.1 _ (by decide), f1 _ (by decide)]; exact hr.2.2
  obtain ⟨r4, σ4, τ4, c4, m4, P4, J4, f4, g4, R4, k4, l4, n4, X4⟩ := P_nol E3 Q3.1 Q3.2.1 (by rw [nz]; exact ⟨Int.le_refl _, (JR_b Q3.2.1).2.1⟩) (d := d) hd
  have E4 : ENV σ4 τ4 f N := ENV_c E3 (f4 _ (by decide)) (g4 _ (by decide))
  obtain ⟨σ5, τ5, c5, m5, P5, J5, f5, g5, X5⟩ := P_be E4 P4 J4 (d := d) (by omega)
  have E5 : ENV σ5 τ5 f N := ENV_c E4 (f5 _ (by decide)) (g5 _ (by decide))
  rw [c2, m2]
  simp only [Option.bind_some]
  rw [c3, m3]
  simp only [Option.bind_some]
  rw [c4, m4]
  simp only [Option.bind_some]
  rw [c5, m5]
  simp only [Option.bind_some]
  have F5 : fr osC σ σ5 := fr_trans (fr_sub f1 (by decide)) (fr_trans (fr_sub Q2.2.2.1 (by decide)) (fr_trans (fr_sub f3 (by decide)) (fr_trans (fr_sub f4 (by decide)) (fr_sub f5 (by decide)))))
  have M5 : fr osM τ τ5 := fr_trans (fr_sub g1 (by decide)) (fr_trans (fr_sub Q2.2.2.2.1 (by decide)) (fr_trans (fr_sub g3 (by decide)) (fr_trans (fr_sub g4 (by decide)) (fr_sub g5 (by decide)))))
  by_cases cb : σ5 fR_bad 0 0 = -1
  · obtain ⟨σ6, τ6, c6, m6, P6, f6, g6, w6, w6', k6, l6, X6⟩ := P_what E5 P5 J5 cb (d := d) (by omega)
    rw [c6, m6]
    simp only [Option.bind_some]
    have B6 : σ6 fR_bad 0 0 = -1 → 2 * τ6 fM_runs 0 0 ≤ 5001 := by
      intro z
      have o5 := PR_ok P5 cb
      have n5 := E5.2.2.1
      rcases X6 with x | ⟨_, _, x | x⟩
      · exact absurd z x.1
      · rw [x.2.2.2]; exact J5.2.2.1
      · have y := (J5.2.2.2 cb).2 x.2.2.2.2.1
        have w := x.2.2.2.2.2.2.1
        have v := x.2.2.1
        have o6 := PR_ok P6 z
        omega
    refine ⟨σ6, τ6, rfl, rfl, PG_R P6 (fun z _ => B6 z), fr_trans F5 (fr_sub f6 (by decide)), fr_trans M5 (fr_sub g6 (by decide)), fun z _ => ?_⟩
    obtain ⟨z4, q5, _⟩ := X5 cb
    obtain ⟨z3, N2, N3, N4, N5, N6, _⟩ := X4 z4
    rw [nz] at N5 N6
    have z2 := (Q3.2.2.2.2.2.2.2 z3).1
    obtain ⟨A1, A2, A3, A4, A5, _⟩ := G2 z2
    rw [f1 _ (by decide), hr.1] at A2 A4 A5
    rw [g1 _ (by decide), hr.2.1] at A1 A3 A4
    have rs3 : σ3 fR_runs 0 0 = 1 := by rw [f3 _ (by decide)]; omega
    have rm3 : τ3 fM_runs 0 0 = 1 := by rw [g3 _ (by decide)]; omega
    have rs5 : σ5 fR_runs 0 0 = 1 := by rw [f5 _ (by decide), R4]; exact rs3
    have rm5 : τ5 fM_runs 0 0 = 2 := by rw [g5 _ (by decide), N4, rm3]; rfl
    have a3 : rr σ3 τ3 f 0 0 := rr_Q A4 (by omega) Q3
    have a4 : rr σ4 τ4 f 0 0 := rr_keep a3 (by omega) k4 l4 (f4 _ (by decide))
    have a5 : rr σ5 τ5 f 0 0 := rr_keep a4 (by omega) (rKeepC_eq (f5 _ (by decide)) (f5 _ (by decide))) (rKeep_eq (g5 _ (by decide)) (g5 _ (by decide)) (g5 _ (by decide))) (f5 _ (by decide))
    have a6 : rr σ6 τ6 f 0 0 := rr_keep a5 (by omega) k6 l6 (f6 _ (by decide))
    have n6 : nn σ6 τ6 f 0 1 := by
      rw [N3, rm3] at N6
      refine nn_keep (σ := σ5) (τ := τ5) (nn_keep N6 (by rw [f5 _ (by decide)]) (by rw [f5 _ (by decide)]) (rKeep_eq (g5 _ (by decide)) (g5 _ (by decide)) (g5 _ (by decide))) (f5 _ (by decide))) (by rw [f6 _ (by decide)]) (by rw [f6 _ (by decide)]) l6 (f6 _ (by decide))
    have s6 : σ6 fR_sort 0 0 = 9 := by rw [f6 _ (by decide), f5 _ (by decide), f4 _ (by decide), f3 _ (by decide), Q2.2.2.1 _ (by decide), e1, up_F (by decide), up_eq]
    have t6 : τ6 fM_sort 0 0 = 9 := by rw [g6 _ (by decide), g5 _ (by decide), g4 _ (by decide), g3 _ (by decide), Q2.2.2.2.1 _ (by decide), e2, up_F (by decide), up_eq]
    have nm6 : σ6 fR_names 0 0 = 1 := by rw [f6 _ (by decide), f5 _ (by decide)]; exact N5
    have ok5 := PR_ok P5 cb
    have K6 : σ6 fT_kinds = σ5 fT_kinds := f6 _ (by decide)
    have pw : σ6 fR_runFrom 0 0 ≤ σ6 fR_whatAt 0 0 := by
      have x6 := (k6 0 (by omega)).1
      have x5 : σ5 fR_runFrom 0 0 = σ4 fR_runFrom 0 0 := by rw [f5 _ (by decide)]
      have x4 := (k4 0 (by omega)).1
      have x3 := (Q3.2.2.2.2.1 0 (by omega)).1
      have y3 := (Q3.2.2.2.2.2.2.2 z3).2
      have y2 := A4.2.2.2.2.1
      rw [w6]
      omega
    refine ⟨by rw [t6, s6], Or.inr (Or.inl ⟨s6, nm6, n6, a6, by rw [w6, w6'], by omega, by omega, pw, ?_⟩)⟩
    rw [w6, K6]
    rcases X6 with X6 | ⟨_, _, ⟨x1, x2, x3, x4⟩ | x⟩
    · exact absurd z X6.1
    · exact Or.inl ⟨x1, by rw [x3]; exact rs5⟩
    · have go := rOk_Go E5 ok5.2.1 ok5.2.2.1 (by omega) K6 x (Int.le_refl _) z
      rw [rs5, rm5] at go
      refine Or.inr ⟨go.2.1, ?_, go.2.2.2.1, Or.inl go.2.2.2.2.1.symm⟩
      have := x.2.2.2.2.2.2.2.1 1
      rw [rs5, if_pos rfl] at this
      exact this
  · have bM : τ5 fM_isBad 0 0 = 1 := by
      rcases P5.2 with g | g
      · exact absurd g.1 cb
      · exact g.2.2.1
    have R5 := P5.1
    rw [cb_what (by omega) cb (by omega), mb_what (by omega) bM]
    simp only [Option.bind_some]
    refine ⟨_, _, rfl, rfl, PG_c (LC := [fR_whatAt]) (LM := [fM_what]) (PG_R P5 (fun _ _ => J5.2.2.1)) (fr_u (by decide)) (fr_u (by decide)) (by decide) (by decide), fr_trans F5 (fr_u (by decide)), fr_trans M5 (fr_u (by decide)), fun z => ?_⟩
    rw [up_F (by decide)] at z
    exact absurd z cb
/-- a list and be -/
theorem os_list {σ τ : ga_S} {f : Int} {N : Nat} (H : stH σ τ f N) {d : Nat} (hd : 5 ≤ d) : osA σ τ f N (r_otherShape_441 d σ) ((c_m_list d τ 1).bind fun q3 =>
        (c_m_be d q3.2).bind fun q4 =>
          if (q4.2 fM_isBad 0 0) = 0 then
            (c_m_rest d q4.2).bind fun q5 =>
              some (0, q5.2)
          else
            some (0, q4.2)) := by
  obtain ⟨d, rfl⟩ : ∃ e, d = e + 1 := ⟨d - 1, by omega⟩
  obtain ⟨hE, hP, hJ, hb, hp, hr, hnu, hv, hps⟩ := H
  have ok := PR_ok hP hb
  obtain ⟨τ1, e1⟩ : ∃ x, x = ga_up τ fM_listFrom 0 0 (τ fM_runs 0 0) := ⟨_, rfl⟩
  have g1 : fr [fM_listFrom] τ τ1 := by rw [e1]; exact fr_u (by decide)
  have E1 : ENV σ τ1 f N := ENV_c hE rfl (g1 _ (by decide))
  have P1 : PR σ τ1 f N := PR_c hP rfl rfl (g1 _ (by decide)) (g1 _ (by decide)) (g1 _ (by decide))
  have J1 : JR σ τ1 := JR_mv hJ rfl (by rw [g1 _ (by decide)]) rfl (fun z => ⟨z, Or.inl rfl⟩)
  have L1 : LI σ τ1 f := ⟨hr.1, by rw [g1 _ (by decide), hr.2.1, hr.2.2], by rw [hr.2.2]; exact Int.le_refl _, fun k h1 h2 => by rw [hr.2.2] at h2; omega, fun k h1 h2 => by rw [hr.2.2] at h2; omega, fun k h1 h2 => by rw [hr.2.2] at h2; omega⟩
  obtain ⟨σ2, τ2, c2, m2, P2, J2, f2, g2, X2⟩ := P_list (f := f) (N := N) (d := d + 1) (e := d) (by omega) (by omega) (N + 1) σ τ1 E1 P1 J1 hb L1 (by omega)
  obtain ⟨τ3, e3⟩ : ∃ x, x = ga_up τ2 fM_listSize 0 0 (w32 (τ2 fM_runs 0 0 - τ2 fM_listFrom 0 0)) := ⟨_, rfl⟩
  have ml : c_m_list (d + 1) τ 1 = some (0, τ3) := by
    rw [e_m_list, ← e1, m2, e_m_list_46, ← e3]
  have g3 : fr [fM_listSize] τ2 τ3 := by rw [e3]; exact fr_u (by decide)
  have E2 : ENV σ2 τ2 f N := ENV_c E1 (f2 _ (by decide)) (g2 _ (by decide))
  have E3 : ENV σ2 τ3 f N := ENV_c E2 rfl (g3 _ (by decide))
  have P3 : PR σ2 τ3 f N := PR_c P2 rfl rfl (g3 _ (by decide)) (g3 _ (by decide)) (g3 _ (by decide))
  have J3 : JR σ2 τ3 := JR_mv J2 rfl (by rw [g3 _ (by decide)]) rfl (fun z => ⟨z, Or.inl rfl⟩)
  obtain ⟨σ4, τ4, c4, m4, P4, J4, f4, g4, X4⟩ := P_be E3 P3 J3 (d := d + 1) (by omega)
  have E4 : ENV σ4 τ4 f N := ENV_c E3 (f4 _ (by decide)) (g4 _ (by decide))
  have F4 : fr osC σ σ4 := fr_trans (fr_sub f2 (by decide)) (fr_sub f4 (by decide))
  have M4 : fr osM τ τ4 := fr_trans (fr_sub g1 (by decide)) (fr_trans (fr_sub g2 (by decide)) (fr_trans (fr_sub g3 (by decide)) (fr_sub g4 (by decide))))
  rw [ml, e_r_otherShape_441, c2, e_r_otherShape_443, if_pos rfl, c4]
  simp only [Option.bind_some]
  rw [m4]
  simp only [Option.bind_some]
  by_cases cb : σ4 fR_bad 0 0 = -1
  · have ok4 := PR_ok P4 cb
    obtain ⟨z2, q4, v4⟩ := X4 cb
    obtain ⟨⟨L1, L2, L3, L4, L6, L7⟩, L5⟩ := X2 z2
    have hB := JR_b J2
    have lf : τ2 fM_listFrom 0 0 = 0 := by rw [g2 _ (by decide), e1, up_eq]; exact hr.2.1
    have ls : τ3 fM_listSize 0 0 = σ2 fR_names 0 0 := by
      rw [e3, up_eq, lf, w32_ok (by omega)]; omega
    have nm4 : σ4 fR_names 0 0 = σ2 fR_names 0 0 := by rw [f4 _ (by decide)]
    have BH : bsH σ4 τ4 f N (σ2 fR_names 0 0) := by
      refine ⟨E4, P4, J4, cb, by rw [f4 _ (by decide)]; exact L1, by rw [g4 _ (by decide), g3 _ (by decide)]; exact L2, ?_, ?_, ?_⟩
      · rw [f4 fR_not (by decide), f2 fR_not (by decide), g4 fM_isNot (by decide), g3 fM_isNot (by decide), g2 fM_isNot (by decide), g1 fM_isNot (by decide), f4 fR_usually (by decide), f2 fR_usually (by decide), g4 fM_isUsually (by decide), g3 fM_isUsually (by decide), g2 fM_isUsually (by decide), g1 fM_isUsually (by decide)]; exact hnu
      · rw [f4 _ (by decide), f2 _ (by decide)]; exact hv
      · rw [f4 _ (by decide), f2 _ (by decide)]; exact hps
    obtain ⟨σ5, τ5, c5, m5, P5, f5, g5, X5⟩ := P_rest BH (d := d + 1) (by omega)
    rw [if_pos ok4.1, m5, if_pos cb, c5]
    simp only [Option.bind_some]
    refine ⟨σ5, τ5, rfl, rfl, P5, fr_trans F4 (fr_sub f5 (by decide)), fr_trans M4 (fr_sub g5 (by decide)), fun y1 y2 => ?_⟩
    obtain ⟨rk, B⟩ := X5 y1 y2
    have nm5 : σ5 fR_names 0 0 = σ2 fR_names 0 0 := by rw [f5 _ (by decide)]; exact nm4
    refine ⟨B.1, Or.inr (Or.inr (Or.inl ⟨?_, by omega, fun k h1 h2 => ?_, fun k h1 h2 => ?_, ?_, ?_, ?_, σ4 fR_p 0 0, by rw [nm5]; exact B, fun k h1 h2 => ?_⟩))⟩
    · have := B.2.2
      rcases this with h | h | h | h | h | h | h <;> omega
    · rw [nm5] at h2
      exact nn_keep (σ := σ2) (τ := τ2) (L4 k h1 h2) (by rw [f5 _ (by decide), f4 _ (by decide)]) (by rw [f5 _ (by decide), f4 _ (by decide)]) (rKeep_trans (rKeep_eq ((g4 _ (by decide)).trans (g3 _ (by decide))) ((g4 _ (by decide)).trans (g3 _ (by decide))) ((g4 _ (by decide)).trans (g3 _ (by decide)))) rk) ((f5 _ (by decide)).trans (f4 _ (by decide)))
    · rw [nm5] at h2
      rw [f5 fR_nameTo (by decide), f4 fR_nameTo (by decide), f5 fR_nameFrom (by decide), f4 fR_nameFrom (by decide)]
      exact L6 k h1 h2
    · rw [g5 _ (by decide), g4 _ (by decide), g3 _ (by decide)]; exact lf
    · rw [g5 _ (by decide), g4 _ (by decide), ls, nm5]
    · rw [f5 _ (by decide), g5 _ (by decide)]; exact v4
    · rw [nm5] at h2
      rw [f5 fR_nameTo (by decide), f4 fR_nameTo (by decide)]
      have := L7 k h1 h2
      omega
  · have bM : τ4 fM_isBad 0 0 = 1 := by
      rcases P4.2 with g | g
      · exact absurd g.1 cb
      · exact g.2.2.1
    rw [if_neg cb, if_neg (by omega)]
    exact ⟨σ4, τ4, rfl, rfl, PG_R P4 (fun _ _ => J4.2.2.1), F4, M4, fun z => absurd z cb⟩

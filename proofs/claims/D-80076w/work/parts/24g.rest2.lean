/-! behind be: actions, kinds with places, places -/
theorem bs_act {σ τ : ga_S} {f : Int} {N : Nat} {n : Int} (H : bsH σ τ f N n) {d : Nat} (hd : 4 ≤ d) (hk : σ fR_p 0 0 + 2 ≤ N) : bsA σ τ f N n ((c_r_takes d (ga_up (ga_up σ fR_sort 0 0 11) fR_p 0 0 (w32 ((σ fR_p 0 0) + 2))) 37).bind fun q4 =>
        if q4.1 = 0 then
          some (0, q4.2)
        else
          (c_r_take d q4.2 20).bind fun q5 =>
            (c_r_take d q5.2 31).bind fun q6 =>
              (c_r_run d q6.2).bind fun q7 =>
                some (0, q7.2)) ((c_m_isNext d (ga_up (ga_up (ga_up τ fM_sort 0 0 11) fM_at 0 0 (w32 ((τ fM_at 0 0) + 2))) fM_what 0 0 (-1)) 128).bind fun q5 =>
          if q5.1 = 0 then
            some (0, q5.2)
          else
            (c_m_take d (ga_up q5.2 fM_at 0 0 (w32 ((q5.2 fM_at 0 0) + 1))) 111).bind fun q6 =>
              (c_m_take d q6.2 122).bind fun q7 =>
                (c_m_run d q7.2).bind fun q8 =>
                  some (0, (ga_up q8.2 fM_what 0 0 q8.1))) := by
  obtain ⟨hE, hP, hJ, hb, hr, hn, hnu, hv, hps⟩ := H
  have hf := hE.1
  have hN := hE.2.1
  have ok := PR_ok hP hb
  rw [w32_ok (by omega), w32_ok (by omega)]
  obtain ⟨σ1, e1⟩ : ∃ x, x = ga_up (ga_up σ fR_sort 0 0 11) fR_p 0 0 (σ fR_p 0 0 + 2) := ⟨_, rfl⟩
  obtain ⟨τ1, e2⟩ : ∃ x, x = ga_up (ga_up (ga_up τ fM_sort 0 0 11) fM_at 0 0 (τ fM_at 0 0 + 2)) fM_what 0 0 (-1) := ⟨_, rfl⟩
  rw [← e1, ← e2]
  have f1 : fr [fR_sort, fR_p] σ σ1 := by rw [e1]; exact fr_trans (fr_u (by decide)) (fr_u (by decide))
  have g1 : fr [fM_sort, fM_at, fM_what] τ τ1 := by rw [e2]; exact fr_trans (fr_trans (fr_u (by decide)) (fr_u (by decide))) (fr_u (by decide))
  obtain ⟨E1, P1, J1⟩ := ST_mv hE hP hJ hb (n := 2) (by omega) hk f1 g1 (by decide) (by decide) (by rw [e1, up_eq]) (by rw [e2, up_F (by decide), up_eq])
  have b1 : σ1 fR_bad 0 0 = -1 := by rw [f1 _ (by decide)]; exact hb
  have s1 : σ1 fR_sort 0 0 = 11 := by rw [e1, up_F (by decide), up_eq]
  have t1 : τ1 fM_sort 0 0 = 11 := by rw [e2, up_F (by decide), up_F (by decide), up_eq]
  have w1 : τ1 fM_what 0 0 = -1 := by rw [e2, up_eq]
  have r1 : σ1 fR_runs 0 0 = 0 := by rw [f1 _ (by decide)]; exact hr
  have n1 : τ1 fM_runs 0 0 = n := by rw [g1 _ (by decide)]; exact hn
  rw [s_r_takes E1 P1 (by omega), s_nx E1 P1 (by omega) (c := 37) (by decide) (by decide)]
  simp only [Option.bind_some]
  by_cases ck : σ1 fR_bad 0 0 = -1 ∧ σ1 fT_kinds 0 (σ1 fR_p 0 0) = 37
  · have ok1 := PR_ok P1 b1
    have lt : σ1 fR_p 0 0 < N := ENV_lt E1 ok1.2.2.1 ck.2 (by decide) (by decide)
    rw [decide_eq_true ck, if_neg b2i_n, if_neg b2i_n, if_pos ck, w32_ok (by omega)]
    obtain ⟨σ2, e3⟩ : ∃ x, x = ga_up σ1 fR_p 0 0 (σ1 fR_p 0 0 + 1) := ⟨_, rfl⟩
    obtain ⟨τ2, e4⟩ : ∃ x, x = ga_up τ1 fM_at 0 0 (τ1 fM_at 0 0 + 1) := ⟨_, rfl⟩
    rw [← e3, ← e4]
    have f2 : fr [fR_p] σ1 σ2 := by rw [e3]; exact fr_u (by decide)
    have g2 : fr [fM_at] τ1 τ2 := by rw [e4]; exact fr_u (by decide)
    obtain ⟨E2, P2, J2⟩ := ST_mv E1 P1 J1 b1 (n := 1) (by omega) (by omega) f2 g2 (by decide) (by decide) (by rw [e3, up_eq]) (by rw [e4, up_eq])
    obtain ⟨v3, σ3, τ3, c3, m3, Q3, f3, g3, _⟩ := S_take E2 P2 J2 (d := d) (by omega) (c := 20) (m := 111) (by decide) (by decide) (by decide) (by decide)
    have E3 := SQ_E Q3 E2
    obtain ⟨v4, σ4, τ4, c4, m4, Q4, f4, g4, _⟩ := S_take E3 Q3.1 Q3.2.1 (d := d) (by omega) (c := 31) (m := 122) (by decide) (by decide) (by decide) (by decide)
    have E4 := SQ_E Q4 E3
    obtain ⟨r, σ5, τ5, c5, m5, Q5, G⟩ := S_run E4 Q4.1 Q4.2.1 (d := d) (by omega)
    rw [c3, m3]
    simp only [Option.bind_some]
    rw [c4, m4]
    simp only [Option.bind_some]
    rw [c5, m5]
    simp only [Option.bind_some]
    obtain ⟨τ6, e6⟩ : ∃ x, x = ga_up τ5 fM_what 0 0 r := ⟨_, rfl⟩
    rw [← e6]
    have g6 : fr [fM_what] τ5 τ6 := by rw [e6]; exact fr_u (by decide)
    have F : fr rcL σ1 σ5 := fr_trans (fr_sub f2 (by decide)) (fr_trans Q3.2.2.1 (fr_trans Q4.2.2.1 Q5.2.2.1))
    have M : fr (fM_what :: rmL) τ1 τ6 := fr_trans (fr_sub g2 (by decide)) (fr_trans (fr_sub Q3.2.2.2.1 (by decide)) (fr_trans (fr_sub Q4.2.2.2.1 (by decide)) (fr_trans (fr_sub Q5.2.2.2.1 (by decide)) (fr_sub g6 (by decide)))))
    refine ⟨σ5, τ6, rfl, rfl, PG_c (PG_R Q5.1 (fun _ _ => Q5.2.1.2.2.1)) (fr_refl [] σ5) g6 (by decide) (by decide), fr_trans (fr_sub f1 (by decide)) (fr_sub F (by decide)), fr_trans (fr_sub g1 (by decide)) (fr_sub M (by decide)), fun z _ => ?_⟩
    obtain ⟨G1, G2, G3, G4, _⟩ := G z
    have r3 : σ4 fR_runs 0 0 = 0 := by rw [f4 _ (by decide), f3 _ (by decide), f2 _ (by decide)]; exact r1
    have n3 : τ4 fM_runs 0 0 = n := by rw [g4 _ (by decide), g3 _ (by decide), g2 _ (by decide)]; exact n1
    rw [r3] at G2 G4
    rw [n3] at G1 G4
    have r4 : σ5 fR_runs 0 0 = 1 := by omega
    have s4 : σ5 fR_sort 0 0 = 11 := by rw [F _ (by decide)]; exact s1
    exact ⟨rKeep_trans (rKeep_f g1 (by decide)) (rKeep_trans (rKeep_f g2 (by decide)) (rKeep_trans Q3.2.2.2.2.2.1 (rKeep_trans Q4.2.2.2.2.2.1 (rKeep_trans Q5.2.2.2.2.2.1 (rKeep_f g6 (by decide)))))), by rw [M _ (by decide), t1, s4], rr_1 r4 (rr_u G4 g6 (by decide) (by decide) (by decide)), Or.inr (Or.inl ⟨s4, Or.inr ⟨r4, by rw [e6, up_eq]; exact G1⟩⟩)⟩
  · rw [decide_eq_false ck, if_pos b2i_f, if_pos b2i_f, if_neg ck]
    exact ⟨σ1, τ1, rfl, rfl, PG_R P1 (fun _ _ => J1.2.2.1), fr_sub f1 (by decide), fr_sub g1 (by decide), fun _ _ => ⟨rKeep_f g1 (by decide), by rw [t1, s1], rr_0 r1, Or.inr (Or.inl ⟨s1, Or.inl ⟨r1, w1⟩⟩)⟩⟩
/-- no words of a place: the model is wrong there -/
theorem m_place_no {σ τ : ga_S} {f : Int} {N : Nat} (hE : ENV σ τ f N) (hP : PR σ τ f N) (hb : σ fR_bad 0 0 = -1) (hw : plS (σ fT_kinds 0 (σ fR_p 0 0)) = 0) {d : Nat} (hd : 4 ≤ d) : ∃ τ', ((c_m_placing d τ).bind fun q10 => (c_m_name0 d (ga_up q10.2 fM_placeWay 0 0 q10.1)).bind fun q11 => some ((0 : Int), (ga_up q11.2 fM_placeRun 0 0 q11.1))) = some (0, τ') ∧ fr (fM_placeWay :: fM_placeRun :: pmL) τ τ' ∧ τ' fM_isBad 0 0 = 1 ∧ τ' fM_badAt 0 0 = f + σ fR_p 0 0 := by
  obtain ⟨d, rfl⟩ : ∃ e, d = e + 1 := ⟨d - 1, by omega⟩
  have ok := PR_ok hP hb
  have pl : c_m_placing (d + 1) τ = some (0, ga_up (ga_up τ fM_isBad 0 0 1) fM_badAt 0 0 (τ fM_at 0 0)) := by
    rw [s_m_placing hE hP hb (by omega), hw, e_m_placing_59, if_pos rfl, s_m_odd (by omega), if_pos ok.1]
    simp only [Option.bind_some]
  rw [pl]
  simp only [Option.bind_some]
  rw [mb_name (by omega) (by rw [up_F (by decide), up_F (by decide), up_eq])]
  simp only [Option.bind_some]
  refine ⟨_, rfl, fr_trans (fr_trans (fr_trans (fr_u (by decide)) (fr_u (by decide))) (fr_u (by decide))) (fr_u (by decide)), ?_, ?_⟩
  · rw [up_F (by decide), up_F (by decide), up_F (by decide), up_eq]
  · rw [up_F (by decide), up_F (by decide), up_eq]; exact ok.2.2.2
/-- an article: a kind, and perhaps a place -/
theorem bs_art {σ τ : ga_S} {f : Int} {N : Nat} {n : Int} (H : bsH σ τ f N n) (h0 : τ fM_placeWay 0 0 = 0) {d : Nat} (hd : 4 ≤ d) (hk : σ fR_p 0 0 < N) : bsA σ τ f N n ((c_r_run d (ga_up (ga_up σ fR_sort 0 0 12) fR_p 0 0 (w32 ((σ fR_p 0 0) + 1)))).bind fun q14 =>
          if (q14.2 fR_bad 0 0) = (-1) then
            (c_r_isPlace d q14.2).bind fun q15 =>
              if q15.1 = 0 then
                some (0, q15.2)
              else
                (c_r_placed d q15.2).bind fun q16 =>
                  some (0, q16.2)
          else
            some (0, q14.2)) ((c_m_run d (ga_up (ga_up τ fM_sort 0 0 12) fM_at 0 0 (w32 ((τ fM_at 0 0) + 1)))).bind fun q17 =>
        (c_m_isNext d (ga_up q17.2 fM_what 0 0 q17.1) 46).bind fun q18 =>
          if q18.1 = 0 then
            if (q18.2 fM_isBad 0 0) = 0 then
              (c_m_placing d q18.2).bind fun q19 =>
                (c_m_name0 d (ga_up q19.2 fM_placeWay 0 0 q19.1)).bind fun q20 =>
                  some (0, (ga_up q20.2 fM_placeRun 0 0 q20.1))
            else
              some (0, q18.2)
          else
            some (0, q18.2)) := by
  obtain ⟨hE, hP, hJ, hb, hr, hn, hnu, hv, hps⟩ := H
  have hf := hE.1
  have hN := hE.2.1
  have ok := PR_ok hP hb
  rw [w32_ok (by omega), w32_ok (by omega)]
  obtain ⟨σ1, e1⟩ : ∃ x, x = ga_up (ga_up σ fR_sort 0 0 12) fR_p 0 0 (σ fR_p 0 0 + 1) := ⟨_, rfl⟩
  obtain ⟨τ1, e2⟩ : ∃ x, x = ga_up (ga_up τ fM_sort 0 0 12) fM_at 0 0 (τ fM_at 0 0 + 1) := ⟨_, rfl⟩
  rw [← e1, ← e2]
  have f1 : fr [fR_sort, fR_p] σ σ1 := by rw [e1]; exact fr_trans (fr_u (by decide)) (fr_u (by decide))
  have g1 : fr [fM_sort, fM_at] τ τ1 := by rw [e2]; exact fr_trans (fr_u (by decide)) (fr_u (by decide))
  obtain ⟨E1, P1, J1⟩ := ST_mv hE hP hJ hb (n := 1) (by omega) (by omega) f1 g1 (by decide) (by decide) (by rw [e1, up_eq]) (by rw [e2, up_eq])
  have s1 : σ1 fR_sort 0 0 = 12 := by rw [e1, up_F (by decide), up_eq]
  have t1 : τ1 fM_sort 0 0 = 12 := by rw [e2, up_F (by decide), up_eq]
  obtain ⟨r, σ2, τ2, c2, m2, Q, G⟩ := S_run E1 P1 J1 (d := d) (by omega)
  rw [c2, m2]
  simp only [Option.bind_some]
  obtain ⟨τ3, e3⟩ : ∃ x, x = ga_up τ2 fM_what 0 0 r := ⟨_, rfl⟩
  rw [← e3]
  have g3 : fr [fM_what] τ2 τ3 := by rw [e3]; exact fr_u (by decide)
  have E3 : ENV σ2 τ3 f N := ENV_c (SQ_E Q E1) rfl (g3 _ (by decide))
  have P3 : PR σ2 τ3 f N := PR_c Q.1 rfl rfl (g3 _ (by decide)) (g3 _ (by decide)) (g3 _ (by decide))
  have J3 : JR σ2 τ3 := JR_mv Q.2.1 rfl (by rw [g3 _ (by decide)]) rfl (fun z => ⟨z, Or.inl rfl⟩)
  have F2 : fr bsC σ σ2 := fr_trans (fr_sub f1 (by decide)) (fr_sub Q.2.2.1 (by decide))
  have M3 : fr bsM τ τ3 := fr_trans (fr_sub g1 (by decide)) (fr_trans (fr_sub Q.2.2.2.1 (by decide)) (fr_sub g3 (by decide)))
  rw [s_nx E3 P3 (by omega) (c := 3) (by decide) (by decide)]
  simp only [Option.bind_some]
  by_cases cb : σ2 fR_bad 0 0 = -1
  · obtain ⟨G1, G2, G3, G4, _⟩ := G cb
    have ok3 := PR_ok P3 cb
    have r1 : σ1 fR_runs 0 0 = 0 := by rw [f1 _ (by decide)]; exact hr
    have n1 : τ1 fM_runs 0 0 = n := by rw [g1 _ (by decide)]; exact hn
    rw [r1] at G2 G4
    rw [n1] at G1 G4
    have r2 : σ2 fR_runs 0 0 = 1 := by omega
    have s2 : σ2 fR_sort 0 0 = 12 := by rw [Q.2.2.1 _ (by decide)]; exact s1
    have t3 : τ3 fM_sort 0 0 = 12 := by rw [g3 _ (by decide), Q.2.2.2.1 _ (by decide)]; exact t1
    have w3 : τ3 fM_what 0 0 = n := by rw [e3, up_eq]; exact G1
    have ps : σ2 fR_placeSort 0 0 = 0 := by rw [Q.2.2.1 _ (by decide), f1 _ (by decide)]; exact hps
    have pw : τ3 fM_placeWay 0 0 = 0 := by rw [g3 _ (by decide), Q.2.2.2.1 _ (by decide), g1 _ (by decide)]; exact h0
    have rr3 : rr σ2 τ3 f 0 n := rr_u G4 g3 (by decide) (by decide) (by decide)
    rw [if_pos cb, s_r_isPlace (by omega) (by omega)]
    simp only [Option.bind_some]
    by_cases c3 : σ2 fT_kinds 0 (σ2 fR_p 0 0) = 3
    · have np : ¬ (plS (σ2 fT_kinds 0 (σ2 fR_p 0 0)) ≠ 0) := by rw [c3]; decide
      rw [decide_eq_false np, if_pos b2i_f, decide_eq_true ⟨cb, c3⟩, if_neg b2i_n]
      exact ⟨σ2, τ3, rfl, rfl, PG_R P3 (fun _ _ => J3.2.2.1), F2, M3, fun _ _ => ⟨rKeep_trans (rKeep_f g1 (by decide)) (rKeep_trans Q.2.2.2.2.2.1 (rKeep_f g3 (by decide))), by rw [t3, s2], rr_1 r2 rr3, Or.inr (Or.inr (Or.inl ⟨s2, r2, w3, Or.inl ⟨ps, pw⟩⟩))⟩⟩
    · rw [decide_eq_false (p := σ2 fR_bad 0 0 = -1 ∧ σ2 fT_kinds 0 (σ2 fR_p 0 0) = 3) (fun z => c3 z.2), if_pos b2i_f, if_pos ok3.1]
      by_cases cp : plS (σ2 fT_kinds 0 (σ2 fR_p 0 0)) = 0
      · obtain ⟨τ4, m4, g4, b4, a4⟩ := m_place_no E3 P3 cb cp (d := d) hd
        rw [decide_eq_false (fun z => z cp), if_pos b2i_f]
        refine ⟨σ2, τ4, rfl, m4, Or.inr (Or.inr ⟨cb, ok3.2.1, ok3.2.2.1, c3, b4, a4⟩), F2, fr_trans M3 (fr_sub g4 (by decide)), fun _ z => by omega⟩
      · obtain ⟨σ4, τ4, c4, m4, P4, J4, f4, g4, r4, k4, l4, X⟩ := P_placed E3 P3 J3 cb cp (d := d) hd
        rw [decide_eq_true cp, if_neg b2i_n, c4]
        simp only [Option.bind_some]
        refine ⟨σ4, τ4, rfl, m4, PG_R P4 (fun _ _ => J4.2.2.1), fr_trans F2 (fr_sub f4 (by decide)), fr_trans M3 (fr_sub g4 (by decide)), fun z _ => ?_⟩
        obtain ⟨X1, X2, X3⟩ := X z
        have pr := plS_r (σ2 fT_kinds 0 (σ2 fR_p 0 0))
        have s4 : σ4 fR_sort 0 0 = 12 := by rw [f4 _ (by decide)]; exact s2
        refine ⟨rKeep_trans (rKeep_trans (rKeep_f g1 (by decide)) (rKeep_trans Q.2.2.2.2.2.1 (rKeep_f g3 (by decide)))) l4, by rw [g4 _ (by decide), t3, s4], rr_1 (by rw [r4]; exact r2) (rr_keep rr3 (by omega) k4 l4 (f4 _ (by decide))), Or.inr (Or.inr (Or.inl ⟨s4, by rw [r4]; exact r2, by rw [g4 _ (by decide)]; exact w3, Or.inr ⟨by omega, by omega, by omega, X3⟩⟩))⟩
  · have bM : τ3 fM_isBad 0 0 = 1 := by
      rcases P3.2 with g | g
      · exact absurd g.1 cb
      · exact g.2.2.1
    rw [if_neg cb, decide_eq_false (fun z => cb z.1), if_pos b2i_f, if_neg (by omega)]
    exact ⟨σ2, τ3, rfl, rfl, PG_R P3 (fun _ _ => J3.2.2.1), F2, M3, fun z => absurd z cb⟩

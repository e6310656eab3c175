/-! behind be: free words; all of it -/
theorem more_b {σ τ τ' : ga_S} {f : Int} {N : Nat} (hE : ENV σ τ f N) (h : PR σ τ f N) (hb : σ fR_bad 0 0 = -1) {d : Nat} (hd : 2 ≤ d) {b : Bool} (hm : c_m_isMore d τ = some (b2i b, τ')) : b = decide (σ fT_kinds 0 (σ fR_p 0 0) = 4 ∨ σ fT_kinds 0 (σ fR_p 0 0) = 25) := by
  obtain ⟨d, rfl⟩ : ∃ e, d = e + 1 := ⟨d - 1, by omega⟩
  have hf := hE.1
  have hN := hE.2.1
  have ok := PR_ok h hb
  have n1 : b2i true = 1 := rfl
  have key : ∀ v : Bool, (∃ τ2, c_m_isMore (d + 1) τ = some (b2i v, τ2)) → b = v := by
    rintro v ⟨τ2, e⟩
    rw [hm] at e
    injection e with e
    injection e with e _
    cases b <;> cases v <;> first | rfl | exact absurd e (by decide)
  apply key
  rw [e_m_isMore, s_nx hE h (by omega) (c := 4) (by decide) (by decide)]
  simp only [Option.bind_some]
  by_cases c4 : σ fT_kinds 0 (σ fR_p 0 0) = 4
  · have lt : σ fR_p 0 0 < N := ENV_lt hE ok.2.2.1 c4 (by decide) (by decide)
    rw [decide_eq_true ⟨hb, c4⟩, if_neg b2i_n, w32_ok (by omega), ck_ok _ (by omega), decide_eq_true (Or.inl c4)]
    by_cases cc : τ fM_token 0 (τ fM_at 0 0 + 1) = 116
    · rw [if_pos cc, e_m_isMore_43]; exact ⟨_, rfl⟩
    · rw [if_neg cc, e_m_isMore_43]; exact ⟨_, rfl⟩
  · rw [decide_eq_false (fun z => c4 z.2), if_pos b2i_f, s_nx hE h (by omega) (c := 25) (by decide) (by decide)]
    simp only [Option.bind_some]
    by_cases c25 : σ fT_kinds 0 (σ fR_p 0 0) = 25
    · rw [decide_eq_true ⟨hb, c25⟩, if_neg b2i_n, decide_eq_true (Or.inr c25)]; exact ⟨_, rfl⟩
    · rw [decide_eq_false (fun z => c25 z.2), if_pos b2i_f, decide_eq_false (by omega)]; exact ⟨_, rfl⟩
theorem bs_free {σ τ : ga_S} {f : Int} {N : Nat} {n : Int} (H : bsH σ τ f N n) {d : Nat} (hd : 4 ≤ d) (hk : σ fT_kinds 0 (σ fR_p 0 0) = 0) : bsA σ τ f N n ((c_r_run d σ).bind fun q10 =>
                  (c_r_takes d (ga_up q10.2 fR_sort 0 0 15) 16).bind fun q11 =>
                    if q11.1 = 0 then
                      r_beShape_347 d q11.2
                    else
                      (c_r_name d (ga_up q11.2 fR_sort 0 0 14)).bind fun q12 =>
                        some (0, q12.2)) ((c_m_run d τ).bind fun q12 =>
              (c_m_isNext d (ga_up (ga_up q12.2 fM_what 0 0 q12.1) fM_sort 0 0 15) 107).bind fun q13 =>
                if q13.1 = 0 then
                  (c_m_isNext d q13.2 116).bind fun q14 =>
                    if q14.1 = 0 then
                      (c_m_isNext d q14.2 44).bind fun q15 =>
                        if q15.1 = 0 then
                          some (0, q15.2)
                        else
                          m_rest_407 d q15.2
                    else
                      m_rest_407 d q14.2
                else
                  (c_m_name0 d (ga_up (ga_up q13.2 fM_sort 0 0 14) fM_at 0 0 (w32 ((q13.2 fM_at 0 0) + 1)))).bind fun q16 =>
                    some (0, (ga_up q16.2 fM_placeRun 0 0 q16.1))) := by
  obtain ⟨hE, hP, hJ, hb, hr, hn, hnu, hv, hps⟩ := H
  have hf := hE.1
  have hN := hE.2.1
  have ok := PR_ok hP hb
  obtain ⟨r, σ1, τ1, c1, m1, Q, G⟩ := S_run hE hP hJ (d := d) (by omega)
  have b1 := r_run_ok hE hP (by omega) (JR_b hJ).1 hb hk c1
  obtain ⟨G1, G2, G3, G4, G5, G6p⟩ := G b1
  rw [hr] at G2 G4 G6p
  rw [hn] at G1 G3 G4
  have E1 := SQ_E Q hE
  rw [c1, m1]
  simp only [Option.bind_some]
  obtain ⟨σ2, e2⟩ : ∃ x, x = ga_up σ1 fR_sort 0 0 15 := ⟨_, rfl⟩
  obtain ⟨τ2, e3⟩ : ∃ x, x = ga_up (ga_up τ1 fM_what 0 0 r) fM_sort 0 0 15 := ⟨_, rfl⟩
  rw [← e2, ← e3]
  have f2 : fr [fR_sort] σ1 σ2 := by rw [e2]; exact fr_u (by decide)
  have g2 : fr [fM_what, fM_sort] τ1 τ2 := by rw [e3]; exact fr_trans (fr_u (by decide)) (fr_u (by decide))
  have p2 : σ2 fR_p 0 0 = σ1 fR_p 0 0 := by rw [f2 _ (by decide)]
  have ok1 := PR_ok Q.1 b1
  obtain ⟨E2, P2, J2⟩ := ST_mv E1 Q.1 Q.2.1 b1 (n := 0) (by omega) (by omega) f2 g2 (by decide) (by decide) (by omega) (by rw [g2 _ (by decide)]; omega)
  have b2 : σ2 fR_bad 0 0 = -1 := by rw [f2 _ (by decide)]; exact b1
  have ok2 := PR_ok P2 b2
  have s2 : σ2 fR_sort 0 0 = 15 := by rw [e2, up_eq]
  have t2 : τ2 fM_sort 0 0 = 15 := by rw [e3, up_eq]
  have w2 : τ2 fM_what 0 0 = n := by rw [e3, up_F (by decide), up_eq]; exact G1
  have r2 : σ2 fR_runs 0 0 = 1 := by rw [f2 _ (by decide)]; omega
  have n2 : τ2 fM_runs 0 0 = n + 1 := by rw [g2 _ (by decide)]; exact G3
  have rr2 : rr σ2 τ2 f 0 n := rr_keep G4 (by omega) (rKeepC_eq (f2 _ (by decide)) (f2 _ (by decide))) (rKeep_eq (g2 _ (by decide)) (g2 _ (by decide)) (g2 _ (by decide))) (f2 _ (by decide))
  have F2 : fr bsC σ σ2 := fr_trans (fr_sub Q.2.2.1 (by decide)) (fr_sub f2 (by decide))
  have M2 : fr bsM τ τ2 := fr_trans (fr_sub Q.2.2.2.1 (by decide)) (fr_sub g2 (by decide))
  rw [s_r_takes E2 P2 (by omega), s_nx E2 P2 (by omega) (c := 16) (by decide) (by decide)]
  simp only [Option.bind_some]
  by_cases c16 : σ2 fR_bad 0 0 = -1 ∧ σ2 fT_kinds 0 (σ2 fR_p 0 0) = 16
  · have lt : σ2 fR_p 0 0 < N := ENV_lt E2 ok2.2.2.1 c16.2 (by decide) (by decide)
    rw [decide_eq_true c16, if_neg b2i_n, if_neg b2i_n, if_pos c16, w32_ok (by omega)]
    obtain ⟨σ3, e4⟩ : ∃ x, x = ga_up (ga_up σ2 fR_p 0 0 (σ2 fR_p 0 0 + 1)) fR_sort 0 0 14 := ⟨_, rfl⟩
    obtain ⟨τ3, e5⟩ : ∃ x, x = ga_up (ga_up τ2 fM_sort 0 0 14) fM_at 0 0 (τ2 fM_at 0 0 + 1) := ⟨_, rfl⟩
    rw [← e4, ← e5]
    have f3 : fr [fR_p, fR_sort] σ2 σ3 := by rw [e4]; exact fr_trans (fr_u (by decide)) (fr_u (by decide))
    have g3 : fr [fM_sort, fM_at] τ2 τ3 := by rw [e5]; exact fr_trans (fr_u (by decide)) (fr_u (by decide))
    obtain ⟨E3, P3, J3⟩ := ST_mv E2 P2 J2 b2 (n := 1) (by omega) (by omega) f3 g3 (by decide) (by decide) (by rw [e4, up_F (by decide), up_eq]) (by rw [e5, up_eq])
    obtain ⟨r', σ4, τ4, c4, m4, Q4, G'⟩ := S_name E3 P3 J3 (d := d) hd
    rw [c4, m4]
    simp only [Option.bind_some]
    obtain ⟨τ5, e6⟩ : ∃ x, x = ga_up τ4 fM_placeRun 0 0 r' := ⟨_, rfl⟩
    rw [← e6]
    have g5 : fr [fM_placeRun] τ4 τ5 := by rw [e6]; exact fr_u (by decide)
    refine ⟨σ4, τ5, rfl, rfl, PG_c (PG_R Q4.1 (fun _ _ => Q4.2.1.2.2.1)) (fr_refl [] σ4) g5 (by decide) (by decide), fr_trans F2 (fr_trans (fr_sub f3 (by decide)) (fr_sub Q4.2.2.1 (by decide))), fr_trans M2 (fr_trans (fr_sub g3 (by decide)) (fr_trans (fr_sub Q4.2.2.2.1 (by decide)) (fr_sub g5 (by decide)))), fun z _ => ?_⟩
    obtain ⟨H1, H2, H3, H4, _⟩ := G' z
    have r3 : σ3 fR_runs 0 0 = 1 := by rw [f3 _ (by decide)]; exact r2
    have n3 : τ3 fM_runs 0 0 = n + 1 := by rw [g3 _ (by decide)]; exact n2
    rw [r3] at H2 H4
    rw [n3] at H1 H4
    have s4 : σ4 fR_sort 0 0 = 14 := by rw [Q4.2.2.1 _ (by decide), e4, up_eq]
    have t5 : τ5 fM_sort 0 0 = 14 := by rw [g5 _ (by decide), Q4.2.2.2.1 _ (by decide), e5, up_F (by decide), up_eq]
    have rr3 : rr σ3 τ3 f 0 n := rr_keep rr2 (by omega) (rKeepC_eq (f3 _ (by decide)) (f3 _ (by decide))) (rKeep_eq (g3 _ (by decide)) (g3 _ (by decide)) (g3 _ (by decide))) (f3 _ (by decide))
    refine ⟨rKeep_trans Q.2.2.2.2.2.1 (rKeep_trans (rKeep_f g2 (by decide)) (rKeep_trans (rKeep_f g3 (by decide)) (rKeep_trans Q4.2.2.2.2.2.1 (rKeep_f g5 (by decide))))), by rw [t5, s4], fun i a b => ?_, Or.inr (Or.inr (Or.inr (Or.inr (Or.inl ⟨s4, by omega, ?_, by rw [e6, up_eq]; exact H1⟩))))⟩
    · by_cases ci : i = 0
      · rw [ci, Int.add_zero]
        exact rr_u (rr_Q rr3 (by omega) Q4) g5 (by decide) (by decide) (by decide)
      · have : i = 1 := by omega
        rw [this]
        exact rr_u H4 g5 (by decide) (by decide) (by decide)
    · rw [g5 _ (by decide), Q4.2.2.2.1 _ (by decide), g3 _ (by decide)]; exact w2
  · rw [decide_eq_false c16, if_pos b2i_f, if_pos b2i_f, if_neg c16]
    obtain ⟨τ3, e5⟩ : ∃ x, x = ga_up τ2 fM_sort 0 0 16 := ⟨_, rfl⟩
    have g3 : fr [fM_sort] τ2 τ3 := by rw [e5]; exact fr_u (by decide)
    have E3 : ENV σ2 τ3 f N := ENV_c E2 rfl (g3 _ (by decide))
    have P3 : PR σ2 τ3 f N := PR_c P2 rfl rfl (g3 _ (by decide)) (g3 _ (by decide)) (g3 _ (by decide))
    have J3 : JR σ2 τ3 := JR_mv J2 rfl (by rw [g3 _ (by decide)]) rfl (fun z => ⟨z, Or.inl rfl⟩)
    obtain ⟨b, σ4, τ4, c4, m4, P4, f4, g4, b4, ht, hff⟩ := P_sep E3 P3 (d := d) (by omega)
    have hB := more_b E3 P3 b2 (by omega) m4
    have mod : ((c_m_isNext d τ2 116).bind fun q14 => if q14.1 = 0 then (c_m_isNext d q14.2 44).bind fun q15 => if q15.1 = 0 then some (0, q15.2) else m_rest_407 d q15.2 else m_rest_407 d q14.2) = if b = true then m_rest_413 d τ3 else some (0, τ2) := by
      rw [s_nx E2 P2 (by omega) (c := 25) (by decide) (by decide)]
      simp only [Option.bind_some]
      by_cases c25 : σ2 fT_kinds 0 (σ2 fR_p 0 0) = 25
      · rw [decide_eq_true ⟨b2, c25⟩, if_neg b2i_n, e_m_rest_407, ← e5, hB, if_pos (decide_eq_true (Or.inr c25))]
      · rw [decide_eq_false (fun z => c25 z.2), if_pos b2i_f, s_nx E2 P2 (by omega) (c := 4) (by decide) (by decide)]
        simp only [Option.bind_some]
        by_cases c4 : σ2 fT_kinds 0 (σ2 fR_p 0 0) = 4
        · rw [decide_eq_true ⟨b2, c4⟩, if_neg b2i_n, e_m_rest_407, ← e5, hB, if_pos (decide_eq_true (Or.inl c4))]
        · rw [decide_eq_false (fun z => c4 z.2), if_pos b2i_f, hB, decide_eq_false (by omega), if_neg (by decide)]
    rw [mod, e_r_beShape_347, if_pos b2, c4]
    simp only [Option.bind_some]
    cases b
    · obtain ⟨r1, _⟩ := hff rfl
      rw [if_pos b2i_f, if_neg (by decide), r1]
      refine ⟨σ2, τ2, rfl, rfl, PG_R P2 (fun _ _ => J2.2.2.1), F2, M2, fun _ _ => ⟨rKeep_trans Q.2.2.2.2.2.1 (rKeep_f g2 (by decide)), by rw [t2, s2], rr_1 r2 rr2, Or.inr (Or.inr (Or.inr (Or.inr (Or.inr (Or.inl ⟨s2, r2, w2, ?_, ?_, Or.inl ?_, n2, by rw [f2 _ (by decide), Q.2.2.1 _ (by decide)]; exact hps⟩)))))⟩⟩
      · rw [f2 _ (by decide), g2 _ (by decide), Q.2.2.1 _ (by decide), Q.2.2.2.1 _ (by decide), hnu.1, hnu.2.1]
      · rw [f2 _ (by decide), g2 _ (by decide), Q.2.2.1 _ (by decide), Q.2.2.2.1 _ (by decide), hnu.2.2.1, hnu.2.2.2]
      · rw [f2 _ (by decide), Q.2.2.1 _ (by decide)]; exact hnu.1
    · have lt := (ht rfl).2
      have ok3 := PR_ok P3 b2
      rw [if_neg b2i_n, if_pos rfl, e_m_rest_413, if_pos ok3.1, m4]
      simp only [Option.bind_some]
      rw [if_neg b2i_n]
      obtain ⟨σ5, e6⟩ : ∃ x, x = ga_up σ4 fR_sort 0 0 16 := ⟨_, rfl⟩
      rw [← e6]
      have f5 : fr [fR_sort] σ4 σ5 := by rw [e6]; exact fr_u (by decide)
      have z4 : σ4 fR_bad 0 0 = -1 := by rw [b4]; exact b2
      have E4 : ENV σ4 τ4 f N := ENV_c E3 (f4 _ (by decide)) (g4 _ (by decide))
      have J4 : JR σ4 τ4 := JR_mv J3 (by rw [f4 _ (by decide)]) (by rw [g4 _ (by decide)]) (f4 _ (by decide)) (fun _ => ⟨b2, Or.inr lt⟩)
      have p5 : σ5 fR_p 0 0 = σ4 fR_p 0 0 := by rw [f5 _ (by decide)]
      have ok4 := PR_ok P4 z4
      obtain ⟨E5, P5, J5⟩ := ST_mv E4 P4 J4 z4 (n := 0) (by omega) (by omega) f5 (fr_refl [] τ4) (by decide) (by decide) (by omega) (by omega)
      obtain ⟨r', σ6, τ6, c6, m6, Q6, G6⟩ := S_run E5 P5 J5 (d := d) (by omega)
      rw [c6, m6]
      simp only [Option.bind_some]
      have r5 : σ5 fR_runs 0 0 = 1 := by rw [f5 _ (by decide), f4 _ (by decide)]; exact r2
      have n5 : τ4 fM_runs 0 0 = n + 1 := by rw [g4 _ (by decide), g3 _ (by decide)]; exact n2
      have rr5 : rr σ5 τ4 f 0 n := by
        refine rr_keep rr2 (by omega) (rKeepC_eq ?_ ?_) (rKeep_eq ?_ ?_ ?_) ?_
        · rw [f5 _ (by decide), f4 _ (by decide)]
        · rw [f5 _ (by decide), f4 _ (by decide)]
        · rw [g4 _ (by decide), g3 _ (by decide)]
        · rw [g4 _ (by decide), g3 _ (by decide)]
        · rw [g4 _ (by decide), g3 _ (by decide)]
        · rw [f5 _ (by decide), f4 _ (by decide)]
      have s6 : σ6 fR_sort 0 0 = 16 := by rw [Q6.2.2.1 _ (by decide), e6, up_eq]
      obtain ⟨σ7, τ7, c7, m7, P7, f7, g7, kk7, le7, X⟩ := bs_more (f := f) (N := N) (n := n) (d := d) (by omega) (N + 1 - σ6 fR_p 0 0).toNat σ6 τ6 (SQ_E Q6 E5) Q6.1 Q6.2.1 s6 (fun z => by
        obtain ⟨H1, H2, H3, H4, _⟩ := G6 z
        rw [r5] at H2 H4
        rw [n5] at H3 H4
        have := PR_ok Q6.1 z
        have O1 : OR σ1 := OR_run (OR_0 hr) Q G (by rw [hr]; exact Int.le_refl _) b1
        have p1 : σ2 fR_p 0 0 = σ1 fR_p 0 0 := by rw [f2 _ (by decide)]
        have O5 : OR σ5 := OR_mv O1 (by rw [f5 _ (by decide), f4 _ (by decide), f2 _ (by decide)]) (rKeepC_eq (by rw [f5 _ (by decide), f4 _ (by decide), f2 _ (by decide)]) (by rw [f5 _ (by decide), f4 _ (by decide), f2 _ (by decide)])) (by omega)
        refine ⟨by omega, by omega, OR_run O5 Q6 G6 J5.1 z, fun i a b => ?_⟩
        by_cases ci : i = 0
        · rw [ci, Int.add_zero]
          exact rr_Q rr5 (by omega) Q6
        · have : i = 1 := by omega
          rw [this]; exact H4)
      have r6 := Q6.2.2.2.2.2.2.1
      refine ⟨σ7, τ7, c7, m7, PG_R P7 (fun z _ => (X z).2.2.2), fr_trans F2 (fr_trans (fr_sub f4 (by decide)) (fr_trans (fr_sub f5 (by decide)) (fr_trans (fr_sub Q6.2.2.1 (by decide)) (fr_sub f7 (by decide))))), fr_trans M2 (fr_trans (fr_sub g3 (by decide)) (fr_trans (fr_sub g4 (by decide)) (fr_trans (fr_sub Q6.2.2.2.1 (by decide)) (fr_sub g7 (by decide))))), fun z _ => ?_⟩
      obtain ⟨X1, X0, X2, _⟩ := X z
      have s7 : σ7 fR_sort 0 0 = 16 := by rw [f7 _ (by decide)]; exact s6
      have t7 : τ7 fM_sort 0 0 = 16 := by rw [g7 _ (by decide), Q6.2.2.2.1 _ (by decide), g4 _ (by decide), e5, up_eq]
      have w7 : τ7 fM_what 0 0 = n := by rw [g7 _ (by decide), Q6.2.2.2.1 _ (by decide), g4 _ (by decide), g3 _ (by decide)]; exact w2
      have ge : 2 ≤ σ7 fR_runs 0 0 := by
        by_cases cz : σ6 fR_bad 0 0 = -1
        · obtain ⟨H1, H2, _⟩ := G6 cz
          omega
        · have : r_beShape_347 d σ6 = some (0, σ6) := by rw [e_r_beShape_347, if_neg cz]
          rw [this] at c7
          injection c7 with c7; injection c7 with _ c7
          rw [← c7] at z
          exact absurd z cz
      have pf : σ fR_p 0 0 ≤ σ7 fR_runFrom 0 0 := by
        have x7 := (X2 0 (Int.le_refl _) (by omega)).2.2.1
        rw [Int.add_zero] at x7
        have k7 := (rKeep_trans Q6.2.2.2.2.2.1 kk7).2 n (by omega)
        have y5 := rr5.2.2.1
        have e5 : σ5 fR_runFrom = σ1 fR_runFrom := by rw [f5 _ (by decide), f4 _ (by decide), f2 _ (by decide)]
        rw [e5] at y5
        rw [k7.1, y5] at x7
        omega
      exact ⟨rKeep_trans Q.2.2.2.2.2.1 (rKeep_trans (rKeep_f g2 (by decide)) (rKeep_trans (rKeep_f g3 (by decide)) (rKeep_trans (rKeep_f g4 (by decide)) (rKeep_trans Q6.2.2.2.2.2.1 kk7)))), by rw [t7, s7], X2, Or.inr (Or.inr (Or.inr (Or.inr (Or.inr (Or.inr ⟨s7, ge, w7, X1, X0.1, pf, by rw [g7 _ (by decide), Q6.2.2.2.1 _ (by decide), g4 _ (by decide), g3 _ (by decide), g2 _ (by decide), Q.2.2.2.1 _ (by decide)]; exact hnu.2.2.2⟩)))))⟩

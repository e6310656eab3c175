/-! behind be: places, not, free words -/
theorem bs_place {σ τ : ga_S} {f : Int} {N : Nat} {n : Int} (H : bsH σ τ f N n) {d : Nat} (hd : 4 ≤ d) (hw : plS (σ fT_kinds 0 (σ fR_p 0 0)) ≠ 0) : bsA σ τ f N n ((c_r_placed d (ga_up σ fR_sort 0 0 13)).bind fun q13 =>
              some (0, q13.2)) ((c_m_placing d (ga_up τ fM_sort 0 0 13)).bind fun q10 =>
              (c_m_name0 d (ga_up q10.2 fM_placeWay 0 0 q10.1)).bind fun q11 =>
                some (0, (ga_up q11.2 fM_placeRun 0 0 q11.1))) := by
  obtain ⟨hE, hP, hJ, hb, hr, hn, hnu, hv, hps⟩ := H
  have ok := PR_ok hP hb
  obtain ⟨σ1, e1⟩ : ∃ x, x = ga_up σ fR_sort 0 0 13 := ⟨_, rfl⟩
  obtain ⟨τ1, e2⟩ : ∃ x, x = ga_up τ fM_sort 0 0 13 := ⟨_, rfl⟩
  rw [← e1, ← e2]
  have f1 : fr [fR_sort] σ σ1 := by rw [e1]; exact fr_u (by decide)
  have g1 : fr [fM_sort] τ τ1 := by rw [e2]; exact fr_u (by decide)
  have p1 : σ1 fR_p 0 0 = σ fR_p 0 0 := by rw [f1 _ (by decide)]
  obtain ⟨E1, P1, J1⟩ := ST_mv hE hP hJ hb (n := 0) (by omega) (by omega) f1 g1 (by decide) (by decide) (by omega) (by rw [g1 _ (by decide)]; omega)
  have b1 : σ1 fR_bad 0 0 = -1 := by rw [f1 _ (by decide)]; exact hb
  have w1 : plS (σ1 fT_kinds 0 (σ1 fR_p 0 0)) ≠ 0 := by rw [p1, f1 _ (by decide)]; exact hw
  obtain ⟨σ4, τ4, c4, m4, P4, J4, f4, g4, r4, k4, l4, X⟩ := P_placed E1 P1 J1 b1 w1 (d := d) hd
  rw [c4]
  simp only [Option.bind_some]
  refine ⟨σ4, τ4, rfl, m4, PG_R P4 (fun _ _ => J4.2.2.1), fr_trans (fr_sub f1 (by decide)) (fr_sub f4 (by decide)), fr_trans (fr_sub g1 (by decide)) (fr_sub g4 (by decide)), fun z _ => ?_⟩
  obtain ⟨X1, X2, X3⟩ := X z
  have pr := plS_r (σ1 fT_kinds 0 (σ1 fR_p 0 0))
  have s4 : σ4 fR_sort 0 0 = 13 := by rw [f4 _ (by decide), e1, up_eq]
  have rz : σ4 fR_runs 0 0 = 0 := by rw [r4, f1 _ (by decide)]; exact hr
  exact ⟨rKeep_trans (rKeep_f g1 (by decide)) l4, by rw [g4 _ (by decide), s4, e2, up_eq], rr_0 rz, Or.inr (Or.inr (Or.inr (Or.inl ⟨s4, rz, by omega, by omega, by omega, X3⟩)))⟩
theorem bs_not {σ τ : ga_S} {f : Int} {N : Nat} {n : Int} (H : bsH σ τ f N n) {d : Nat} (hd : 4 ≤ d) (w : Bool) (hk : σ fT_kinds 0 (σ fR_p 0 0) = if w = true then 15 else 41) : bsA σ τ f N n (r_beShape_259 d σ (σ fT_kinds 0 (σ fR_p 0 0))) (m_rest_276 d τ (cdM (σ fT_kinds 0 (σ fR_p 0 0)))) := by
  obtain ⟨hE, hP, hJ, hb, hr, hn, hnu, hv, hps⟩ := H
  have hf := hE.1
  have hN := hE.2.1
  have ok := PR_ok hP hb
  have lt : σ fR_p 0 0 < N := ENV_lt hE ok.2.2.1 hk (by cases w <;> decide) (by cases w <;> decide)
  obtain ⟨σ1, e1⟩ : ∃ x, x = ga_up (ga_up (ga_up (ga_up σ fR_sort 0 0 15) fR_not 0 0 (b2i w)) fR_usually 0 0 (b2i (!w))) fR_p 0 0 (σ fR_p 0 0 + 1) := ⟨_, rfl⟩
  obtain ⟨τ1, e2⟩ : ∃ x, x = ga_up (ga_up (ga_up (ga_up τ fM_sort 0 0 15) fM_isNot 0 0 (b2i w)) fM_isUsually 0 0 (b2i (!w))) fM_at 0 0 (τ fM_at 0 0 + 1) := ⟨_, rfl⟩
  have cc : r_beShape_259 d σ (σ fT_kinds 0 (σ fR_p 0 0)) = (c_r_run d σ1).bind fun q19 => some (0, q19.2) := by
    rw [e_r_beShape_259, hk]
    cases w
    · rw [if_neg (by decide), e_r_beShape_278, z1_ok _ (by decide), if_pos rfl, e_r_beShape_294, z1_ok _ (by decide), up_F (F' := fR_p) (by decide), up_F (F' := fR_p) (by decide), w32_ok (by omega), e1]
      rfl
    · rw [if_pos (c := (if true = true then (15 : Int) else 41) = 15) (by decide), e_r_beShape_278, z1_ok _ (by decide), if_neg (by decide), e_r_beShape_294, z1_ok _ (by decide), up_F (F' := fR_p) (by decide), up_F (F' := fR_p) (by decide), w32_ok (by omega), e1]
      rfl
  have mm : m_rest_276 d τ (cdM (σ fT_kinds 0 (σ fR_p 0 0))) = (c_m_run d τ1).bind fun q23 => some (0, (ga_up q23.2 fM_what 0 0 q23.1)) := by
    rw [e_m_rest_276, hk]
    cases w
    · rw [if_neg (by decide), e_m_rest_294, z1_ok _ (by decide), if_pos (by decide), e_m_rest_310, z1_ok _ (by decide), up_F (F' := fM_at) (by decide), up_F (F' := fM_at) (by decide), w32_ok (by omega), e2]
      rfl
    · rw [if_pos (by decide), e_m_rest_294, z1_ok _ (by decide), if_neg (by decide), e_m_rest_310, z1_ok _ (by decide), up_F (F' := fM_at) (by decide), up_F (F' := fM_at) (by decide), w32_ok (by omega), e2]
      rfl
  rw [cc, mm]
  have f1 : fr [fR_sort, fR_not, fR_usually, fR_p] σ σ1 := by rw [e1]; exact fr_trans (fr_trans (fr_trans (fr_u (by decide)) (fr_u (by decide))) (fr_u (by decide))) (fr_u (by decide))
  have g1 : fr [fM_sort, fM_isNot, fM_isUsually, fM_at] τ τ1 := by rw [e2]; exact fr_trans (fr_trans (fr_trans (fr_u (by decide)) (fr_u (by decide))) (fr_u (by decide))) (fr_u (by decide))
  obtain ⟨E1, P1, J1⟩ := ST_mv hE hP hJ hb (n := 1) (by omega) (by omega) f1 g1 (by decide) (by decide) (by rw [e1, up_eq]) (by rw [e2, up_eq])
  obtain ⟨r, σ2, τ2, c2, m2, Q, G⟩ := S_run E1 P1 J1 (d := d) (by omega)
  rw [c2, m2]
  simp only [Option.bind_some]
  obtain ⟨τ3, e3⟩ : ∃ x, x = ga_up τ2 fM_what 0 0 r := ⟨_, rfl⟩
  rw [← e3]
  have g3 : fr [fM_what] τ2 τ3 := by rw [e3]; exact fr_u (by decide)
  refine ⟨σ2, τ3, rfl, rfl, PG_c (PG_R Q.1 (fun _ _ => Q.2.1.2.2.1)) (fr_refl [] σ2) g3 (by decide) (by decide), fr_trans (fr_sub f1 (by decide)) (fr_sub Q.2.2.1 (by decide)), fr_trans (fr_sub g1 (by decide)) (fr_trans (fr_sub Q.2.2.2.1 (by decide)) (fr_sub g3 (by decide))), fun z _ => ?_⟩
  obtain ⟨G1, G2, G3, G4, _⟩ := G z
  rw [f1 _ (by decide), hr] at G2 G4
  rw [g1 _ (by decide), hn] at G1 G4
  have r2 : σ2 fR_runs 0 0 = 1 := by omega
  have s2 : σ2 fR_sort 0 0 = 15 := by rw [Q.2.2.1 _ (by decide), e1, up_F (by decide), up_F (by decide), up_F (by decide), up_eq]
  have t2 : τ3 fM_sort 0 0 = 15 := by rw [g3 _ (by decide), Q.2.2.2.1 _ (by decide), e2, up_F (by decide), up_F (by decide), up_F (by decide), up_eq]
  refine ⟨rKeep_trans (rKeep_f g1 (by decide)) (rKeep_trans Q.2.2.2.2.2.1 (rKeep_f g3 (by decide))), by rw [t2, s2], rr_1 r2 (rr_u G4 g3 (by decide) (by decide) (by decide)), Or.inr (Or.inr (Or.inr (Or.inr (Or.inr (Or.inl ⟨s2, r2, by rw [e3, up_eq]; exact G1, ?_, ?_, ?_, by rw [g3 _ (by decide), G3, g1 _ (by decide), hn], by rw [Q.2.2.1 _ (by decide), f1 _ (by decide)]; exact hps⟩)))))⟩
  · rw [g3 _ (by decide), Q.2.2.2.1 _ (by decide), Q.2.2.1 _ (by decide), e1, e2, up_F (by decide), up_F (by decide), up_eq, up_F (by decide), up_F (by decide), up_eq]
  · rw [g3 _ (by decide), Q.2.2.2.1 _ (by decide), Q.2.2.1 _ (by decide), e1, e2, up_F (by decide), up_eq, up_F (by decide), up_eq]
  · rw [Q.2.2.1 _ (by decide), e1, up_F (by decide), up_F (by decide), up_eq]; exact b2i_01 w
/-- more runs behind and -/
theorem bs_more {f : Int} {N : Nat} {n : Int} {d : Nat} (hd : 2 ≤ d) : ∀ (m : Nat) (σ τ : ga_S), ENV σ τ f N → PR σ τ f N → JR σ τ → σ fR_sort 0 0 = 16 → (σ fR_bad 0 0 = -1 → (N : Int) - σ fR_p 0 0 < m ∧ τ fM_runs 0 0 = n + σ fR_runs 0 0 ∧ OR σ ∧ ∀ i, 0 ≤ i → i < σ fR_runs 0 0 → rr σ τ f i (n + i)) → ∃ σ' τ', r_beShape_347 d σ = some (0, σ') ∧ m_rest_413 d τ = some (0, τ') ∧ PR σ' τ' f N ∧ fr rcL σ σ' ∧ fr rmL τ τ' ∧ rKeep τ τ' ∧ σ fR_runs 0 0 ≤ σ' fR_runs 0 0 ∧ (σ' fR_bad 0 0 = -1 → τ' fM_runs 0 0 = n + σ' fR_runs 0 0 ∧ OR σ' ∧ (∀ i, 0 ≤ i → i < σ' fR_runs 0 0 → rr σ' τ' f i (n + i)) ∧ 2 * τ' fM_runs 0 0 ≤ 5001) := by
  intro m
  induction m with
  | zero =>
    intro σ τ hE hP hJ hs h
    by_cases cb : σ fR_bad 0 0 = -1
    · have := (h cb).1
      have := PR_ok hP cb
      omega
    · have bM : τ fM_isBad 0 0 = 1 := by
        rcases hP.2 with g | g
        · exact absurd g.1 cb
        · exact g.2.2.1
      exact ⟨σ, τ, by rw [e_r_beShape_347, if_neg cb], by rw [e_m_rest_413, if_neg (by omega)], hP, fr_refl _ _, fr_refl _ _, rKeep_refl _, Int.le_refl _, fun z => absurd z cb⟩
  | succ m ih =>
    intro σ τ hE hP hJ hs h
    by_cases cb : σ fR_bad 0 0 = -1
    · obtain ⟨h1, h2, h0, h3⟩ := h cb
      have ok := PR_ok hP cb
      obtain ⟨b, σ1, τ1, c1, m1, P1, f1, g1, b1, ht, hff⟩ := P_sep hE hP (d := d) hd
      rw [e_r_beShape_347, if_pos cb, c1, e_m_rest_413, if_pos ok.1, m1]
      simp only [Option.bind_some]
      cases b
      · obtain ⟨r1, r2⟩ := hff rfl
        rw [if_pos b2i_f, if_pos b2i_f, r1, r2]
        exact ⟨σ, τ, rfl, rfl, hP, fr_refl _ _, fr_refl _ _, rKeep_refl _, Int.le_refl _, fun _ => ⟨h2, h0, h3, hJ.2.2.1⟩⟩
      · have lt := (ht rfl).2
        have z1 : σ1 fR_bad 0 0 = -1 := by rw [b1]; exact cb
        have E1 : ENV σ1 τ1 f N := ENV_c hE (f1 _ (by decide)) (g1 _ (by decide))
        have J1 : JR σ1 τ1 := JR_mv hJ (by rw [f1 _ (by decide)]) (by rw [g1 _ (by decide)]) (f1 _ (by decide)) (fun _ => ⟨cb, Or.inr lt⟩)
        rw [if_neg b2i_n, if_neg b2i_n, up_id (F := fR_sort) (σ := σ1) (by rw [f1 _ (by decide)]; exact hs)]
        obtain ⟨r, σ2, τ2, c2, m2, Q, G⟩ := S_run E1 P1 J1 (d := d) hd
        rw [c2, m2]
        simp only [Option.bind_some]
        have r1 : σ1 fR_runs 0 0 = σ fR_runs 0 0 := by rw [f1 _ (by decide)]
        have n1 : τ1 fM_runs 0 0 = n + σ fR_runs 0 0 := by rw [g1 _ (by decide)]; exact h2
        obtain ⟨σ3, τ3, c3, m3, P3, f3, g3, kk3, le3, X⟩ := ih σ2 τ2 (SQ_E Q E1) Q.1 Q.2.1 (by rw [Q.2.2.1 _ (by decide), f1 _ (by decide)]; exact hs) (fun z => by
          obtain ⟨G1, G2, G3, G4, G5⟩ := G z
          rw [r1] at G2 G4
          rw [n1] at G3 G4
          have := (Q.2.2.2.2.2.2.2 z).2
          have O1 : OR σ1 := OR_mv h0 r1 (rKeepC_eq (f1 _ (by decide)) (f1 _ (by decide))) (by omega)
          refine ⟨by omega, by omega, OR_run O1 Q G J1.1 z, fun i a b => ?_⟩
          by_cases ci : i = σ fR_runs 0 0
          · rw [ci]; exact G4
          · refine rr_Q (σ := σ1) (τ := τ1) (rr_keep (h3 i a (by omega)) (by omega) (rKeepC_eq (f1 _ (by decide)) (f1 _ (by decide))) (rKeep_eq (g1 _ (by decide)) (g1 _ (by decide)) (g1 _ (by decide))) (f1 _ (by decide))) (by omega) Q)
        refine ⟨σ3, τ3, c3, m3, P3, fr_trans (fr_sub f1 (by decide)) (fr_trans Q.2.2.1 f3), fr_trans (fr_sub g1 (by decide)) (fr_trans Q.2.2.2.1 g3), rKeep_trans (rKeep_f g1 (by decide)) (rKeep_trans Q.2.2.2.2.2.1 kk3), ?_, X⟩
        have := Q.2.2.2.2.2.2.1
        omega
    · have bM : τ fM_isBad 0 0 = 1 := by
        rcases hP.2 with g | g
        · exact absurd g.1 cb
        · exact g.2.2.1
      exact ⟨σ, τ, by rw [e_r_beShape_347, if_neg cb], by rw [e_m_rest_413, if_neg (by omega)], hP, fr_refl _ _, fr_refl _ _, rKeep_refl _, Int.le_refl _, fun z => absurd z cb⟩

/-! be; names of a list -/
theorem P_be {σ τ : ga_S} {f : Int} {N : Nat} (hE : ENV σ τ f N) (h : PR σ τ f N) (hJ : JR σ τ) {d : Nat} (hd : 2 ≤ d) : ∃ σ' τ', c_r_be d σ = some (0, σ') ∧ c_m_be d τ = some (0, τ') ∧ PR σ' τ' f N ∧ JR σ' τ' ∧ fr (fR_verb :: pcL) σ σ' ∧ fr (fM_isAre :: pmL) τ τ' ∧ (σ' fR_bad 0 0 = -1 → σ fR_bad 0 0 = -1 ∧ σ' fR_p 0 0 = σ fR_p 0 0 + 1 ∧ ((σ' fR_verb 0 0 = 13 ∧ τ' fM_isAre 0 0 = 0) ∨ (σ' fR_verb 0 0 = 14 ∧ τ' fM_isAre 0 0 = 1))) := by
  obtain ⟨d, rfl⟩ : ∃ e, d = e + 1 := ⟨d - 1, by omega⟩
  have hf := hE.1
  have hN := hE.2.1
  have hR := h.1
  have nx13 := s_nx hE h (d := d) (by omega) (c := 13) (m := 104) (by decide) (by decide)
  have nx14 := s_nx hE h (d := d) (by omega) (c := 14) (m := 105) (by decide) (by decide)
  by_cases cb : σ fR_bad 0 0 = -1
  · have ok := PR_ok h cb
    have is := fun c => s_r_is (σ := σ) (d := d) (by omega) (k := σ fR_p 0 0) ⟨ok.2.1, by omega⟩ c
    have go : ∀ w : Bool, (if w = true then σ fT_kinds 0 (σ fR_p 0 0) = 14 else σ fT_kinds 0 (σ fR_p 0 0) = 13) → ∃ σ' τ', r_be_36 d σ = some (0, σ') ∧ m_be_18 d τ = some (0, τ') ∧ PR σ' τ' f N ∧ JR σ' τ' ∧ fr (fR_verb :: pcL) σ σ' ∧ fr (fM_isAre :: pmL) τ τ' ∧ (σ' fR_bad 0 0 = -1 → σ fR_bad 0 0 = -1 ∧ σ' fR_p 0 0 = σ fR_p 0 0 + 1 ∧ ((σ' fR_verb 0 0 = 13 ∧ τ' fM_isAre 0 0 = 0) ∨ (σ' fR_verb 0 0 = 14 ∧ τ' fM_isAre 0 0 = 1))) := by
      intro w hw
      have kk : σ fT_kinds 0 (σ fR_p 0 0) = 13 ∨ σ fT_kinds 0 (σ fR_p 0 0) = 14 := by
        cases w
        · exact Or.inl hw
        · exact Or.inr hw
      have lt : σ fR_p 0 0 < N := ENV_lt hE ok.2.2.1 rfl (by omega) (by omega)
      have v : b2i (decide (σ fR_bad 0 0 = -1 ∧ σ fT_kinds 0 (σ fR_p 0 0) = 14)) = b2i w := by
        cases w
        · have : σ fT_kinds 0 (σ fR_p 0 0) = 13 := hw
          rw [decide_eq_false (by omega)]
        · have : σ fT_kinds 0 (σ fR_p 0 0) = 14 := hw
          rw [decide_eq_true ⟨cb, this⟩]
      rw [e_r_be_36, ck_ok _ (by omega), e_m_be_18, nx14]
      simp only [Option.bind_some]
      rw [v, z1_ok _ (b2i_01 w), w32_ok (by omega), w32_ok (by omega)]
      have P1 : PR (ga_up σ fR_verb 0 0 (σ fT_kinds 0 (σ fR_p 0 0))) (ga_up τ fM_isAre 0 0 (b2i w)) f N := PR_c h (by rw [up_F (by decide)]) (by rw [up_F (by decide)]) (by rw [up_F (by decide)]) (by rw [up_F (by decide)]) (by rw [up_F (by decide)])
      have P2 := PR_step P1 (by rw [up_F (by decide)]; exact cb) (n := 1) (by omega) (by rw [up_F (by decide)]; omega)
      rw [up_F (F' := fR_p) (by decide), up_F (F' := fM_at) (by decide)] at P2
      refine ⟨_, _, rfl, rfl, P2, ?_, fr_trans (fr_u (by decide)) (fr_u (by decide)), fr_trans (fr_u (by decide)) (fr_u (by decide)), fun _ => ⟨cb, up_eq .., ?_⟩⟩
      · exact JR_mv hJ (by rw [up_F (by decide), up_F (by decide)]) (by rw [up_F (by decide), up_F (by decide)]) (by rw [up_F (by decide), up_F (by decide)]) (fun _ => ⟨cb, Or.inr (by rw [up_eq]; omega)⟩)
      · rw [up_F (by decide), up_eq, up_F (by decide), up_eq]
        cases w
        · exact Or.inl ⟨hw, rfl⟩
        · exact Or.inr ⟨hw, rfl⟩
    rw [e_r_be, if_pos cb, is, e_m_be, nx13]
    simp only [Option.bind_some]
    by_cases c13 : σ fT_kinds 0 (σ fR_p 0 0) = 13
    · rw [decide_eq_true c13, if_neg b2i_n, decide_eq_true ⟨cb, c13⟩, if_neg b2i_n]
      exact go false c13
    · rw [decide_eq_false c13, if_pos b2i_f, decide_eq_false (fun z => c13 z.2), if_pos b2i_f, is, nx14]
      simp only [Option.bind_some]
      by_cases c14 : σ fT_kinds 0 (σ fR_p 0 0) = 14
      · rw [decide_eq_true c14, if_neg b2i_n, decide_eq_true ⟨cb, c14⟩, if_neg b2i_n]
        exact go true c14
      · obtain ⟨σ', τ', c1, m1, P1, nb, f1, g1⟩ := P_wrong h (d := d) (by omega)
        rw [decide_eq_false c14, if_pos b2i_f, decide_eq_false (fun z => c14 z.2), if_pos b2i_f, e_r_be_65, c1, m1]
        simp only [Option.bind_some]
        exact ⟨σ', τ', rfl, rfl, P1, JR_bad hJ (by rw [f1 _ (by decide)]) (by rw [g1 _ (by decide)]) nb, fr_sub f1 (by decide), fr_sub g1 (by decide), fun z => absurd z nb⟩
  · obtain ⟨σ', τ', c1, m1, P1, nb, f1, g1⟩ := P_wrong h (d := d) (by omega)
    rw [e_r_be, if_neg cb, e_r_be_65, c1, e_m_be, nx13]
    simp only [Option.bind_some]
    rw [decide_eq_false (fun z => cb z.1), if_pos b2i_f, nx14]
    simp only [Option.bind_some]
    rw [decide_eq_false (fun z => cb z.1), if_pos b2i_f, m1]
    simp only [Option.bind_some]
    exact ⟨σ', τ', rfl, rfl, P1, JR_bad hJ (by rw [f1 _ (by decide)]) (by rw [g1 _ (by decide)]) nb, fr_sub f1 (by decide), fr_sub g1 (by decide), fun z => absurd z nb⟩
/-- a name of the component's list is a run of the model -/
def nn (σ τ : ga_S) (f k r : Int) : Prop := rnR σ τ f r (σ fR_nameFrom 0 k) (σ fR_nameTo 0 k)
def nlC : List Nat := fR_names :: fR_nameFrom :: fR_nameTo :: rcL
theorem P_nol {σ τ : ga_S} {f : Int} {N : Nat} (hE : ENV σ τ f N) (h : PR σ τ f N) (hJ : JR σ τ) (hn : 0 ≤ σ fR_names 0 0 ∧ σ fR_names 0 0 ≤ τ fM_runs 0 0) {d : Nat} (hd : 4 ≤ d) : ∃ r σ' τ', c_r_nameOfList d σ = some (0, σ') ∧ c_m_name0 d τ = some (r, τ') ∧ PR σ' τ' f N ∧ JR σ' τ' ∧ fr nlC σ σ' ∧ fr rmL τ τ' ∧ σ' fR_runs 0 0 = σ fR_runs 0 0 ∧ rKeepC σ σ' ∧ rKeep τ τ' ∧ (∀ k, k < σ fR_names 0 0 → σ' fR_nameFrom 0 k = σ fR_nameFrom 0 k ∧ σ' fR_nameTo 0 k = σ fR_nameTo 0 k) ∧ (σ' fR_bad 0 0 = -1 → σ fR_bad 0 0 = -1 ∧ σ fR_p 0 0 < σ' fR_p 0 0 ∧ r = τ fM_runs 0 0 ∧ τ' fM_runs 0 0 = τ fM_runs 0 0 + 1 ∧ σ' fR_names 0 0 = σ fR_names 0 0 + 1 ∧ nn σ' τ' f (σ fR_names 0 0) r ∧ σ fR_p 0 0 ≤ σ' fR_nameFrom 0 (σ fR_names 0 0) ∧ σ' fR_nameTo 0 (σ fR_names 0 0) ≤ σ' fR_p 0 0) := by
  obtain ⟨d, rfl⟩ : ∃ e, d = e + 1 := ⟨d - 1, by omega⟩
  have hf := hE.1
  have hN := hE.2.1
  have hB := JR_b hJ
  have hR := h.1
  obtain ⟨r, σ1, τ1, c1, m1, Q, G⟩ := S_name hE h hJ (d := d + 1) (by omega)
  obtain ⟨Q1, Q2, Q3, Q4, Q5, Q6, Q7, Q8⟩ := Q
  have ar := s_r_article hE h (d := d) (by omega)
  have nm : c_r_name (d + 1) σ = (c_r_run d (artC σ)).bind fun q2 => some (0, q2.2) := by
    rw [e_r_name, ar]; simp only [Option.bind_some]
  have run : c_r_run d (artC σ) = some (0, σ1) := by
    obtain ⟨A1, A2, A3, A4, A5⟩ := P_art hE h
    obtain ⟨r', σ', τ', e1, _⟩ := P_run (ENV_c hE (A2 _ (by decide)) (A3 _ (by decide))) A1 (d := d) (by omega) (by rw [A2 fR_runs (by decide)]; exact hB.1) (by rw [A3 fM_runs (by decide)]; exact hB.2)
    rw [nm, e1] at c1
    simp only [Option.bind_some] at c1
    rw [e1, c1]
  have art : (artC σ) fR_runs 0 0 = σ fR_runs 0 0 := by
    have := (P_art hE h).2.1
    rw [this _ (by decide)]
  rw [e_r_nameOfList, ar]
  simp only [Option.bind_some]
  rw [run]
  simp only [Option.bind_some]
  have n1 : σ1 fR_names 0 0 = σ fR_names 0 0 := by rw [Q3 _ (by decide)]
  by_cases cb : σ1 fR_bad 0 0 = -1
  · obtain ⟨G1, G2, G3, G4, G5, G6⟩ := G cb
    obtain ⟨o1, o2⟩ := Q8 cb
    have ok := PR_ok Q1 cb
    rw [if_pos cb, ck_ok _ hB.1, n1, ck_ok _ (by omega), ck_ok _ hB.1, ck_ok _ (by omega), e_r_nameOfList_61, w32_ok (by omega)]
    obtain ⟨σ2, e2⟩ : ∃ x, x = ga_up (ga_up (ga_up (ga_up σ1 fR_nameFrom 0 (σ fR_names 0 0) (σ1 fR_runFrom 0 (σ fR_runs 0 0))) fR_nameTo 0 (σ fR_names 0 0) (σ1 fR_runTo 0 (σ fR_runs 0 0))) fR_names 0 0 (σ fR_names 0 0 + 1)) fR_runs 0 0 (σ fR_runs 0 0) := ⟨_, rfl⟩
    rw [← e2]
    have f2 : fr [fR_nameFrom, fR_nameTo, fR_names, fR_runs] σ1 σ2 := by rw [e2]; exact fr_trans (fr_trans (fr_trans (fr_u (by decide)) (fr_u (by decide))) (fr_u (by decide))) (fr_u (by decide))
    have r2 : σ2 fR_runs 0 0 = σ fR_runs 0 0 := by rw [e2, up_eq]
    have pp : σ fR_p 0 0 < σ2 fR_p 0 0 := by
      rw [f2 _ (by decide)]
      have g := G4.2.2.2.2.1
      have := (G4.2.2.2.2.2.2 (σ1 fR_runFrom 0 (σ fR_runs 0 0)) (Int.le_refl _) g)
      rw [G5]
      have A := P_art hE h
      have A5 := A.2.2.2.2 o1
      have Ap : (artC σ) fR_p 0 0 = σ1 fR_runFrom 0 (σ fR_runs 0 0) := by
        have OK := PR_ok A.1 (by rw [A.2.2.2.1]; exact o1)
        obtain ⟨r', σ', τ', e1, _, _, _, _, e6⟩ := P_run (ENV_c hE (A.2.1 _ (by decide)) (A.2.2.1 _ (by decide))) A.1 (d := d) (by omega) (by rw [A.2.1 fR_runs (by decide)]; exact hB.1) (by rw [A.2.2.1 fM_runs (by decide)]; exact hB.2)
        have e7 : σ' = σ1 := by
          have := e1.symm.trans run
          injection this with this; injection this
        subst e7
        rcases e6 with b | ⟨_, b⟩
        · exact absurd cb b.1
        · have := b.2.2.2.2.2.2.2.1 (σ fR_runs 0 0)
          rw [art, if_pos rfl] at this
          exact this.symm
      have : (0 : Int) ≤ (if artAt σ = true then 1 else 0) := by split <;> omega
      omega
    refine ⟨r, σ2, τ1, rfl, m1, PR_c Q1 (f2 _ (by decide)) (f2 _ (by decide)) rfl rfl rfl, JR_n Q2 (n := σ fR_runs 0 0) hB.1.1 (by omega) r2 (by rw [f2 _ (by decide)]) (by rw [f2 _ (by decide)]) (f2 _ (by decide)), fr_trans (fr_sub Q3 (by decide)) (fr_sub f2 (by decide)), Q4, r2, ?_, Q6, ?_, fun _ => ⟨o1, pp, G1, G3, ?_, ?_, ?_, ?_⟩⟩
    · intro i hi
      rw [f2 fR_runFrom (by decide), f2 fR_runTo (by decide)]
      exact Q5 i hi
    · intro k hk
      rw [e2]
      constructor
      · rw [up_F (by decide), up_F (by decide), up_F (by decide), up_j (by omega), Q3 _ (by decide)]
      · rw [up_F (by decide), up_F (by decide), up_j (by omega), up_F (by decide), Q3 _ (by decide)]
    · rw [e2, up_F (by decide), up_eq]
    · unfold nn
      have a1 : σ2 fR_nameFrom 0 (σ fR_names 0 0) = σ1 fR_runFrom 0 (σ fR_runs 0 0) := by
        rw [e2, up_F (by decide), up_F (by decide), up_F (by decide), up_eq]
      have a2 : σ2 fR_nameTo 0 (σ fR_names 0 0) = σ1 fR_runTo 0 (σ fR_runs 0 0) := by
        rw [e2, up_F (by decide), up_F (by decide), up_eq]
      rw [a1, a2, G1]
      exact rnR_keep G4 (rKeep_refl _) (f2 _ (by decide))
    · rw [e2, up_F (by decide), up_F (by decide), up_F (by decide), up_eq]; exact G6
    · have q : σ2 fR_nameTo 0 (σ fR_names 0 0) = σ1 fR_runTo 0 (σ fR_runs 0 0) := by rw [e2, up_F (by decide), up_F (by decide), up_eq]
      rw [q, f2 fR_p (by decide), G5]; exact Int.le_refl _
  · rw [if_neg cb, e_r_nameOfList_61]
    have f2 : fr [fR_runs] σ1 (ga_up σ1 fR_runs 0 0 (σ fR_runs 0 0)) := fr_u (by decide)
    refine ⟨r, _, τ1, rfl, m1, PR_c Q1 (f2 _ (by decide)) (f2 _ (by decide)) rfl rfl rfl, JR_n Q2 (n := σ fR_runs 0 0) hB.1.1 Q7 (up_eq ..) (by rw [f2 _ (by decide)]) (by rw [f2 _ (by decide)]) (f2 _ (by decide)), fr_trans (fr_sub Q3 (by decide)) (fr_sub f2 (by decide)), Q4, up_eq .., ?_, Q6, ?_, fun z => absurd (by rw [← z, f2 _ (by decide)]) cb⟩
    · intro i hi
      rw [f2 fR_runFrom (by decide), f2 fR_runTo (by decide)]
      exact Q5 i hi
    · intro k hk
      rw [f2 _ (by decide), f2 _ (by decide), Q3 _ (by decide), Q3 _ (by decide)]
      exact ⟨rfl, rfl⟩

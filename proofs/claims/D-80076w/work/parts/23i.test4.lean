/-! a test behind is: an adjective, or a place -/
/-- a run that is kept apart: the component forgets it again -/
theorem T_run {σ τ : ga_S} {f : Int} {N : Nat} (hE : ENV σ τ f N) (h : PR σ τ f N) (hJ : JR σ τ) {d : Nat} (hd : 2 ≤ d) (j : Int) : ∃ r σ' τ', c_r_run d σ = some (0, σ') ∧ c_m_run d τ = some (r, τ') ∧ tsQ σ (ga_up σ' fR_runs 0 0 (σ fR_runs 0 0)) τ τ' f N j ∧ fr rcL σ σ' ∧ fr rmL τ τ' ∧ (σ' fR_bad 0 0 = -1 → σ fR_bad 0 0 = -1 ∧ σ fR_p 0 0 < σ' fR_p 0 0 ∧ r = τ fM_runs 0 0 ∧ rnR (ga_up σ' fR_runs 0 0 (σ fR_runs 0 0)) τ' f r (σ fR_p 0 0) (σ' fR_p 0 0)) := by
  have hB := JR_b hJ
  have hR := h.1
  obtain ⟨r, σ', τ', e1, e2, e3, e4, e5, e6⟩ := P_run hE h hd hB.1 hB.2
  have PR' : PR (ga_up σ' fR_runs 0 0 (σ fR_runs 0 0)) τ' f N := PR_c e3 (up_F (by decide) ..) (up_F (by decide) ..) rfl rfl rfl
  have fC : fr tsC σ (ga_up σ' fR_runs 0 0 (σ fR_runs 0 0)) := fr_trans (fr_sub e4 (by decide)) (fr_u (by decide))
  have kk : (ga_up σ' fR_runs 0 0 (σ fR_runs 0 0)) fT_kinds = σ fT_kinds := fC _ (by decide)
  rcases e6 with b | ⟨b0, b⟩
  · refine ⟨r, σ', τ', e1, e2, ⟨PR', JR_bad hJ (up_eq ..) (by rw [b.2.2.1]) (by rw [up_F (by decide)]; exact b.1), fC, fr_sub e5 (by decide), up_eq .., ?_, rBad_keep b, tKeep_f e5 (mem_no (by decide))⟩, e4, e5, fun z => absurd z b.1⟩
    exact rKeepC_eq (by rw [up_F (by decide)]; exact b.2.2.2.1) (by rw [up_F (by decide)]; exact b.2.2.2.2.1)
  · have ok := e3.2.resolve_right (fun z => by have := b.1; omega)
    have F := frE_r hE (p := σ fR_p 0 0) (by omega) (by omega)
    have J2 : JR σ' τ' := JR_run hJ hE (e4 _ (by decide)) (a := σ fR_p 0 0) (r := r) (fun _ => ⟨Int.le_refl _, Or.inl rfl⟩) ⟨b0, b⟩ ok.2.2.2.1 (by omega)
    obtain ⟨w1, w2, w3, w4⟩ := J2
    obtain ⟨v1, v2, v3, v4⟩ := hJ
    have rs := b.2.2.2.2.2.2.1
    have kc := rOk_keepC b
    refine ⟨r, σ', τ', e1, e2, ⟨PR', ?_, fC, fr_sub e5 (by decide), up_eq .., ?_, rOk_keep b, tKeep_f e5 (mem_no (by decide))⟩, e4, e5, fun _ => ⟨b0, b.2.2.1, b.2.1, ?_⟩⟩
    · unfold JR
      rw [up_eq, up_F (F' := fR_bad) (by decide), up_F (F' := fR_p) (by decide), up_F (F' := fT_kinds) (by decide)]
      exact ⟨v1, by omega, w3, w4⟩
    · intro i hi
      rw [up_F (by decide), up_F (by decide)]
      exact kc i hi
    · have ra := b.2.2.2.2.2.2.2.2.2.1 r
      have rz := b.2.2.2.2.2.2.2.2.2.2 r
      rw [if_pos b.2.1] at ra rz
      refine ⟨by have := b.2.1; omega, by have := b.2.1; omega, ra, rz, b.2.2.1, ⟨by omega, ENV_st hE kk ok.2.2.2.1⟩, fun q h1 h2 => ?_⟩
      rw [kk]
      rw [b.2.2.2.1] at h2
      exact F.2.2.2 q h1 h2
theorem rnR_keep {σ σ' τ τ' : ga_S} {f r a b : Int} (h : rnR σ τ f r a b) (hk : rKeep τ τ') (hs : σ' fT_kinds = σ fT_kinds) : rnR σ' τ' f r a b := by
  obtain ⟨h1, h2, h3, h4, h5, h6, h7⟩ := h
  have k := hk.2 r h2
  have := hk.1
  exact ⟨h1, by omega, by rw [k.1]; exact h3, by rw [k.2]; exact h4, h5, ⟨h6.1, by rw [hs]; exact h6.2⟩, by rw [hs]; exact h7⟩
theorem rnR_no {σ τ : ga_S} {f r a b : Int} (h : rnR σ τ f r a b) : ∀ q, a ≤ q → q < b → ∀ now, ¬ endT now (σ fT_kinds 0 q) := fun q h1 h2 now z => by
  rw [h.2.2.2.2.2.2 q h1 h2] at z
  unfold endT at z
  omega
/-- what a test ends with -/
def tsR (σ σ' τ τ' : ga_S) (f : Int) (N : Nat) (b j : Int) : Prop := tsQ σ σ' τ τ' f N j ∧ τ' fM_tCount 0 0 = j + 1 ∧ (σ' fR_bad 0 0 = -1 → σ fR_bad 0 0 = -1 ∧ σ' fR_p 0 0 = b)
/-- the end of a test, with all that it leaves -/
theorem T_fin {σ τ : ga_S} {f : Int} {N : Nat} (hE : ENV σ τ f N) (h : PR σ τ f N) (hJ : JR σ τ) {d : Nat} (hd : 2 ≤ d) {now b : Int} (hT : σ fR_bad 0 0 = -1 → toT (σ fT_kinds 0) now (σ fR_p 0 0) b) (hj : 0 ≤ τ fM_tCount 0 0 ∧ τ fM_tCount 0 0 < 1700) : ∃ σ' τ', r_testShape_528 d σ b = some (0, σ') ∧ m_test_351 d τ now = some (0, τ') ∧ tsR σ σ' τ τ' f N b (τ fM_tCount 0 0) ∧ fr pcL σ σ' ∧ fr teM τ τ' ∧ (σ' fR_bad 0 0 = -1 → σ fR_p 0 0 = b) := by
  by_cases cb : σ fR_bad 0 0 = -1
  · obtain ⟨t1, t2, t3⟩ := hT cb
    obtain ⟨σ', τ', g1, g2, g3, g4, g5, g6, g7, g8, g9⟩ := T_end hE h hd (now := now) (b := b) (fun q h1 h2 => t3 q h2 h1) t2 (fun _ => t1) hj
    refine ⟨σ', τ', g1, g2, ⟨⟨g3, ?_, fr_sub g4 (by decide), fr_sub g5 (by decide), by rw [g4 _ (by decide)], rKeepC_eq (g4 _ (by decide)) (g4 _ (by decide)), rKeep_eq (g5 _ (by decide)) (g5 _ (by decide)) (g5 _ (by decide)), g6⟩, g7, fun z => ⟨cb, (g9 z).2.2⟩⟩, g4, g5, fun z => (g9 z).2.1⟩
    exact JR_mv hJ (by rw [g4 _ (by decide)]) (by rw [g5 _ (by decide)]) (g4 _ (by decide)) (fun z => ⟨cb, Or.inl (by have := g9 z; omega)⟩)
  · have bad := h.2.resolve_left (fun z => cb z.1)
    rw [s_r_528 hd cb, mb_351 bad.2.2.1 hj]
    have fM : fr teM τ (ga_up (ga_up τ fM_tEnd 0 (τ fM_tCount 0 0) (τ fM_at 0 0)) fM_tCount 0 0 (τ fM_tCount 0 0 + 1)) := fr_trans (fr_u (by decide)) (fr_u (by decide))
    refine ⟨σ, _, rfl, rfl, ⟨⟨?_, ?_, fr_refl _ _, fr_sub fM (by decide), rfl, fun _ _ => ⟨rfl, rfl⟩, rKeep_eq (fM _ (by decide)) (fM _ (by decide)) (fM _ (by decide)), ?_⟩, up_eq .., fun z => absurd z cb⟩, fr_refl _ _, fM, fun z => absurd z cb⟩
    · exact PR_c h rfl rfl (by rw [up_F (by decide), up_F (by decide)]) (by rw [up_F (by decide), up_F (by decide)]) (by rw [up_F (by decide), up_F (by decide)])
    · exact JR_bad hJ rfl (by rw [up_F (by decide), up_F (by decide)]) cb
    · exact tKeep_trans tKeep_u (tKeep_f (L := [fM_tCount]) (fr_u (by decide)) (mem_no (by decide)))
/-- the component's words of an adjective -/
theorem T_507 {σ τ : ga_S} {f : Int} {N : Nat} (hE : ENV σ τ f N) (h : PR σ τ f N) (hJ : JR σ τ) {d : Nat} (hd : 2 ≤ d) {now b : Int} (hT : σ fR_bad 0 0 = -1 → toT (σ fT_kinds 0) now (σ fR_p 0 0) b) (hj : 0 ≤ τ fM_tCount 0 0 ∧ τ fM_tCount 0 0 < 1700) : ∃ σ' τ', r_testShape_507 d σ b = some (0, σ') ∧ (c_m_run d (ga_up τ fM_tForm 0 (τ fM_tCount 0 0) 3)).bind (fun q15 => ga_ck (τ fM_tCount 0 0) 1700 (m_test_351 d (ga_up q15.2 fM_tRun 0 (τ fM_tCount 0 0) q15.1) now)) = some (0, τ') ∧ tsR σ σ' τ τ' f N b (τ fM_tCount 0 0) ∧ fr (fR_form :: rcL) σ σ' ∧ fr (fM_tForm :: fM_tRun :: fM_tEnd :: fM_tCount :: rmL) τ τ' ∧ (σ' fR_bad 0 0 = -1 → σ' fR_form 0 0 = 0 ∧ τ' fM_tForm 0 (τ fM_tCount 0 0) = 3 ∧ rnR σ' τ' f (τ' fM_tRun 0 (τ fM_tCount 0 0)) (σ fR_p 0 0) b) := by
  have Q0 : tsQ σ (ga_up σ fR_form 0 0 0) τ (ga_up τ fM_tForm 0 (τ fM_tCount 0 0) 3) f N (τ fM_tCount 0 0) := tsQ_up h hJ (LC := [fR_form]) (LM := [fM_tForm]) (fr_u (by decide)) (fr_u (by decide)) (by decide) (by decide) tKeep_u
  have E0 := tsQ_E Q0 hE
  obtain ⟨r, σ1, τ1, e1, e2, Q1, f1, m1, e3⟩ := T_run E0 Q0.1 Q0.2.1 hd (τ fM_tCount 0 0)
  rw [up_F (F' := fR_runs) (by decide)] at Q1 e3
  have E1 := tsQ_E Q1 E0
  have jt : τ1 fM_tCount 0 0 = τ fM_tCount 0 0 := by rw [m1 _ (by decide), up_F (by decide)]
  have Q2 : tsQ (ga_up σ1 fR_runs 0 0 (σ fR_runs 0 0)) (ga_up σ1 fR_runs 0 0 (σ fR_runs 0 0)) τ1 (ga_up τ1 fM_tRun 0 (τ fM_tCount 0 0) r) f N (τ fM_tCount 0 0) := tsQ_up Q1.1 Q1.2.1 (LC := []) (LM := [fM_tRun]) (fr_refl _ _) (fr_u (by decide)) (by decide) (by decide) tKeep_u
  have E2 := tsQ_E Q2 E1
  have jt2 : (ga_up τ1 fM_tRun 0 (τ fM_tCount 0 0) r) fM_tCount 0 0 = τ fM_tCount 0 0 := by rw [up_F (by decide)]; exact jt
  have hT2 : (ga_up σ1 fR_runs 0 0 (σ fR_runs 0 0)) fR_bad 0 0 = -1 → toT ((ga_up σ1 fR_runs 0 0 (σ fR_runs 0 0)) fT_kinds 0) now ((ga_up σ1 fR_runs 0 0 (σ fR_runs 0 0)) fR_p 0 0) b := by
    intro z
    rw [up_F (by decide)] at z
    obtain ⟨z0, z1, z2, z3⟩ := e3 z
    rw [up_F (by decide)] at z0 z1 z3
    obtain ⟨t1, t2, t3⟩ := hT z0
    have kk : (ga_up σ1 fR_runs 0 0 (σ fR_runs 0 0)) fT_kinds = σ fT_kinds := by rw [up_F (by decide), f1 _ (by decide), up_F (by decide)]
    have nn := rnR_no z3
    rw [kk] at nn ⊢
    rw [up_F (F' := fR_p) (by decide)]
    refine ⟨?_, t2, fun q h1 h2 => t3 q (by omega) h2⟩
    refine Classical.byContradiction fun hc => ?_
    exact nn b t1 (by omega) now t2
  obtain ⟨σ', τ', g1, g2, ⟨g3, g4, g5⟩, g6, g7, g8⟩ := T_fin E2 Q2.1 Q2.2.1 hd hT2 (by rw [jt2]; exact hj)
  rw [jt2] at g3 g4
  rw [e_r_testShape_507, e1, e2]
  simp only [Option.bind_some]
  rw [ck_ok _ hj, g1, g2]
  refine ⟨σ', τ', rfl, rfl, ⟨tsQ_trans Q0 (tsQ_trans Q1 (tsQ_trans Q2 g3)), g4, fun z => ?_⟩, ?_, ?_, fun z => ?_⟩
  · have a := g5 z
    have a1 := a.1
    rw [up_F (by decide)] at a1
    have := e3 a1
    rw [up_F (by decide)] at this
    exact ⟨this.1, a.2⟩
  · exact fr_trans (fr_trans (fr_trans (fr_u (by decide)) (fr_sub f1 (by decide))) (fr_u (by decide))) (fr_sub g6 (by decide))
  · exact fr_trans (fr_trans (fr_trans (fr_u (by decide)) (fr_sub m1 (by decide))) (fr_u (by decide))) (fr_sub g7 (by decide))
  · have a := g5 z
    have a1 := a.1
    rw [up_F (by decide)] at a1
    obtain ⟨z0, z1, z2, z3⟩ := e3 a1
    have pb := g8 z
    rw [up_F (by decide)] at pb
    refine ⟨?_, ?_, ?_⟩
    · rw [g6 _ (by decide), up_F (by decide), f1 _ (by decide), up_eq]
    · rw [g7 _ (by decide), up_F (by decide), m1 _ (by decide), up_eq]
    · rw [g7 fM_tRun (by decide), up_eq]
      rw [up_F (F' := fR_p) (by decide), pb] at z3
      exact rnR_keep z3 (rKeep_trans Q2.2.2.2.2.2.2.1 g3.2.2.2.2.2.2.1) (g6 _ (by decide))

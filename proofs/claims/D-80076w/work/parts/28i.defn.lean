/-! the check of a definition -/
section
variable {σ τ : ga_S} {f : Int} {N : Nat}
theorem ck_2 (E : E0 σ τ f N) (hf : σ fR_fault 0 0 = 0) (hm : τ fM_runs 0 0 ≤ 2600) (hs : σ fR_sort 0 0 = 2) (ht : τ fM_sort 0 0 = 2) (D : dR σ τ f N) (hd0 : 0 ≤ σ fR_draft 0 0) (hq : 0 ≤ τ fM_tests 0 0 ∧ τ fM_tests 0 0 ≤ 700) {d : Nat} (hd : 11 ≤ d) (first : Int) : ∃ σ' τ' c, c_r_check (d + 1) σ = some (0, σ') ∧ c_m_asked (d + 1) τ first = some (0, τ') ∧ KC σ σ' ∧ KM τ τ' ∧ FT σ' c ∧ GT τ' c ∧ rKeepC σ σ' ∧ fr (a0L ++ tstM ++ mbN) τ τ' ∧ (∀ F, F ∈ qL → ∀ k, k < τ fM_tests 0 0 ∨ τ fM_tests 0 0 + σ fR_tests 0 0 ≤ k → τ' F 0 k = τ F 0 k) ∧ (c = 1000000 → (σ' fR_kind0 0 0 = dN σ (nR σ 0) 0 ∧ dN σ (nR σ 0) 0 ≠ -1 ∧ nB σ (wC σ 1) [] = true ∧ σ fW_adjectives 0 0 < 24) ∧ σ fR_tests 0 0 ≤ 6 ∧ σ' fQ_tests (σ fR_draft 0 0) 0 = σ fR_tests 0 0 ∧ ∀ k, 0 ≤ k → k < σ fR_tests 0 0 → stT σ (dN σ (nR σ 0) 0) (-1) false σ' τ' (14 * σ fR_draft 0 0 + k) (τ fM_tests 0 0 + k)) := by
  obtain ⟨n, en⟩ : ∃ x, x = σ fR_draft 0 0 := ⟨_, rfl⟩
  obtain ⟨K1, F1, O1, q1, S1, _, i2, _⟩ := k0_ok hf N
  obtain ⟨M1, G1, Q1, p1, T1, _, mn⟩ := a0_ok σ τ f N
  obtain ⟨D1, r0, r1, UT, D2⟩ := D
  have R0 := RU_of E.1 r0 hm
  have R1 := RU_of E.1 r1 hm
  have wa := e0_a E
  have kf := k0_fr σ
  have af := a0_fr τ
  have x1 : ∀ i, (k0 σ) fR_runFrom 0 i = σ fR_runFrom 0 i ∧ (k0 σ) fR_runTo 0 i = σ fR_runTo 0 i := fun i => ⟨by rw [kf _ (by decide)], by rw [kf _ (by decide)]⟩
  obtain ⟨A, eA⟩ : ∃ x, x = dN σ (nR σ 0) 0 := ⟨_, rfl⟩
  have kA : kO σ A := by
    have := e0_dN E (nR σ 0) 0
    have m0 : mxN σ 0 = σ fW_kinds 0 0 := rfl
    rw [← eA] at this
    unfold kO
    omega
  -- the component
  obtain ⟨σ2, a1, a2, a3, a4⟩ := k_need E K1 F1 R0.2.2.2 (d := d) (by omega) 0
  have eA' : dN σ (nmT σ (σ fR_runFrom 0 0) (σ fR_runTo 0 0)) 0 = A := eA.symm
  rw [eA'] at a1 a4
  obtain ⟨σ3, e3⟩ : ∃ x, x = ga_up σ2 fR_kind0 0 0 A := ⟨_, rfl⟩
  have f3 : fr [fR_kind0] σ2 σ3 := by rw [e3]; exact fr_u (by decide)
  have f13 : fr (fR_kind0 :: ndL) (k0 σ) σ3 := fr_trans (fr_sub a2 (by decide)) (fr_sub f3 (by decide))
  have O3 : nwO σ N σ3 := by unfold nwO; rw [f13 _ (by decide), f13 _ (by decide), f13 _ (by decide)]; exact O1
  have S3 : nwC σ σ3 = [] := by rw [← S1]; unfold nwC; rw [f13 _ (by decide), f13 _ (by decide), f13 _ (by decide)]
  have q3 : σ3 fR_newNames 0 0 = 0 := by rw [f13 _ (by decide)]; exact q1
  obtain ⟨σ4, b1, b2, b3, b4, b5, b6, b7⟩ := k_isNew E (KC_f a3 f3 (by decide)) (FT_f a4 f3 (by decide)) O3 (by omega) R1.2.2.2 (σ fW_adjectives 0 0) 24 (d := d) (by omega)
  rw [S3] at b4
  have k4 : σ4 fR_kind0 0 0 = A := by rw [b2 _ (by decide), e3, up_eq]
  have d4 : σ4 fR_draft 0 0 = n := by rw [b3.1 _ (by decide), en]
  have hn0 : 0 ≤ n := by rw [en]; exact hd0
  obtain ⟨σ5, e5⟩ : ∃ x, x = ga_up (ga_up (ga_up (ga_up (ga_up (ga_up (ga_up (ga_up (ga_up σ4 fR_itKind 0 0 A) fR_rule 0 0 n) fQ_sort n 0 (-1)) fQ_action n 0 (-1)) fQ_object n 0 (-1)) fQ_kind n 0 (-1)) fQ_adjectives n 0 0) fQ_tests n 0 0) fQ_phrases n 0 0 := ⟨_, rfl⟩
  have f5 : fr (fR_itKind :: clL) σ4 σ5 := by
    rw [e5]
    exact fr_trans (fr_trans (fr_trans (fr_trans (fr_trans (fr_trans (fr_trans (fr_trans (fr_u (by decide)) (fr_u (by decide))) (fr_u (by decide))) (fr_u (by decide))) (fr_u (by decide))) (fr_u (by decide))) (fr_u (by decide))) (fr_u (by decide))) (fr_u (by decide))
  have q5 : qkp n σ4 σ5 := by
    rw [e5]
    exact qkp_t (qkp_t (qkp_t (qkp_t (qkp_t (qkp_t (qkp_t (qkp_t (qkp_f (fr_u (L := [fR_itKind]) (by decide)) (by decide)) (qkp_f (fr_u (L := [fR_rule]) (by decide)) (by decide))) (qkp_u _ _ _ _ _)) (qkp_u _ _ _ _ _)) (qkp_u _ _ _ _ _)) (qkp_u _ _ _ _ _)) (qkp_u _ _ _ _ _)) (qkp_u _ _ _ _ _)) (qkp_u _ _ _ _ _)
  have K5 : KC σ σ5 := KC_q b3 f5 (by decide) (by rw [← en]; exact q5)
  have i5 : σ5 fR_itKind 0 0 = A := by rw [e5, up_F (by decide), up_F (by decide), up_F (by decide), up_F (by decide), up_F (by decide), up_F (by decide), up_F (by decide), up_F (by decide), up_eq]
  have r5 : σ5 fR_rule 0 0 = n := by rw [e5, up_F (by decide), up_F (by decide), up_F (by decide), up_F (by decide), up_F (by decide), up_F (by decide), up_F (by decide), up_eq]
  have f05 : fr (fR_itKind :: clL ++ k0L ++ fR_kind0 :: ndL ++ nwL) σ σ5 := fr_trans (fr_sub kf (by decide)) (fr_trans (fr_sub f13 (by decide)) (fr_trans (fr_sub b2 (by decide)) (fr_sub f5 (by decide))))
  have n5 : σ5 fR_nounKind 0 0 = -1 := by rw [f5 _ (by decide), b2 _ (by decide), f13 _ (by decide)]; exact i2
  -- the model
  obtain ⟨τ2, m1, m2, m3, m4⟩ := m_kindOfRun E M1 G1 R0.2.2.2 R0.1 R0.2.1 R0.2.2.1 (d := d) (by omega)
  rw [eA'] at m1 m4
  obtain ⟨τ3, g3⟩ : ∃ x, x = ga_up τ2 fM_itKind 0 0 A := ⟨_, rfl⟩
  have h3 : fr [fM_itKind] τ2 τ3 := by rw [g3]; exact fr_u (by decide)
  have h13 : fr (fM_itKind :: ntM) (a0 τ) τ3 := fr_trans (fr_sub m2 (by decide)) (fr_sub h3 (by decide))
  have Q3 : nwQ σ τ f N τ3 := by unfold nwQ; rw [h13 _ (by decide), h13 _ (by decide)]; exact Q1
  have T3 : nwM σ τ f τ3 = [] := by rw [← T1]; unfold nwM; rw [h13 _ (by decide), h13 _ (by decide)]
  have p3 : τ3 fM_news 0 0 = 0 := by rw [h13 _ (by decide)]; exact p1
  have ad2 : τ2 fM_adjectives 0 0 = σ fW_adjectives 0 0 := by rw [m3 _ (by decide)]; exact wa.2.2.1
  obtain ⟨τ4, n1, n2, n3, n4, _⟩ := m_mustBeNew E (KM_f m3 h3 (by decide)) (GT_f m4 h3 (by decide)) Q3 (by omega) R1 (σ fW_adjectives 0 0) 24 (d := d) (by omega)
  rw [T3] at n4
  have j4 : τ4 fM_itKind 0 0 = A := by rw [n2 _ (by decide), g3, up_eq]
  have l4 : τ4 fM_nounKind 0 0 = -1 := by rw [n2 _ (by decide), h13 _ (by decide)]; exact mn
  have f04 : fr (a0L ++ tstM ++ mbN) τ τ4 := fr_trans (fr_sub af (by decide)) (fr_trans (fr_sub h13 (by decide)) (fr_sub n2 (by decide)))
  -- the tests
  obtain ⟨c1, ec1⟩ : ∃ x, x = min (min 1000000 (if A = -1 then cd σ (σ fR_runFrom 0 0) 2 else 1000000)) (if nB σ (wsT σ 0 (σ fR_runFrom 0 1) (σ fR_runTo 0 1)) [] = true then (if σ fW_adjectives 0 0 < 24 then 1000000 else cd σ (σ fR_runFrom 0 1) 0) else cd σ (σ fR_runFrom 0 1) 1) := ⟨_, rfl⟩
  rw [← ec1] at b4 n4
  have TS0 : TSq σ τ A (-1) A (-1) σ5 τ4 c1 0 := by
    refine ⟨K5, n3, FT_f b4 f5 (by decide), n4, by rw [f05 _ (by decide)], rKeepC_eq (f05 _ (by decide)) (f05 _ (by decide)), ⟨i5, n5⟩, ⟨j4, l4⟩, by rw [r5]; exact en, Or.inl ⟨rfl, rfl⟩, fun _ => ⟨by omega, fun k k0 k1 => by omega⟩⟩
  obtain ⟨σ6, τ6, c6, t1, t2, t3, t4, t5, t6, t7⟩ := ts_all E hm hd0 hq UT kA (Or.inl rfl) kA (Or.inl rfl) (d := d) (e := d) (by omega) (by omega) TS0
  obtain ⟨K6, M6, F6, G6, R6, rk6, i6, j6, r6, _, st6⟩ := t3
  rw [← en] at t1 st6
  obtain ⟨σ7, e7⟩ : ∃ x, x = ga_up σ6 fQ_tests n 0 (σ fR_tests 0 0) := ⟨_, rfl⟩
  have f7 : fr [fQ_tests] σ6 σ7 := by rw [e7]; exact fr_u (by decide)
  have K7 : KC σ σ7 := KC_q K6 f7 (by decide) (by rw [← en, e7]; exact qkp_u _ _ _ _ _)
  have x2 : ∀ i, σ2 fR_runFrom 0 i = σ fR_runFrom 0 i ∧ σ2 fR_runTo 0 i = σ fR_runTo 0 i := fun i => ⟨by rw [a2 _ (by decide)]; exact (x1 i).1, by rw [a2 _ (by decide)]; exact (x1 i).2⟩
  have wk2 : σ2 fW_adjectives = σ fW_adjectives := a3.1 _ (by decide)
  obtain ⟨e, rfl⟩ : ∃ e, d = e + 1 := ⟨d - 1, by omega⟩
  have hC : c_r_check (e + 1 + 1) σ = some (0, σ7) := by
    rw [e_r_check, hs]
    iterate 2 rw [if_neg (by decide)]
    rw [if_pos rfl]
    show ((c_r_need (e + 1) (k0 σ) _ _ _).bind _) = _
    rw [a1]
    simp only [Option.bind_some]
    rw [← e3, (x2 1).1, (x2 1).2, wk2, b1]
    simp only [Option.bind_some]
    rw [d4, nn_ok _ hn0, k4, e_q_clear, nn_ok _ hn0, nn_ok _ hn0, nn_ok _ hn0, nn_ok _ hn0, nn_ok _ hn0, nn_ok _ hn0, nn_ok _ hn0, ← e5]
    simp only [Option.bind_some]
    rw [t1, ← e7]
    rfl
  have hM : c_m_asked (e + 1 + 1) τ first = some (0, τ6) := by
    rw [e_m_asked, ht]
    iterate 2 rw [if_neg (by decide)]
    rw [if_pos rfl]
    show ((c_m_kindOfRun (e + 1) (a0 τ) _).bind _) = _
    rw [m1]
    simp only [Option.bind_some]
    rw [← g3, ad2, n1]
    simp only [Option.bind_some]
    rw [t2]
    rfl
  refine ⟨σ7, τ6, c6, hC, hM, K7, M6, FT_f F6 f7 (by decide), G6, (fun i hi => ⟨by rw [f7 fR_runFrom (by decide)]; exact (rk6 i hi).1, by rw [f7 fR_runTo (by decide)]; exact (rk6 i hi).2⟩), fr_trans f04 (fr_sub t5 (by decide)), fun F hF k hk => ?_, fun z => ?_⟩
  · rw [t6 F hF k hk, n2 F (mem_no (L := qL) (by decide) F hF), h13 F (mem_no (L := qL) (by decide) F hF), af F (mem_no (L := qL) (by decide) F hF)]
  · have c1z : c1 = 1000000 := by have := FT_le b4; omega
    have t0 := frB_t R0.2.2.2
    have t1' := frB_t R1.2.2.2
    have cd0 := cd_r E.2.1 t0 (r := 2) (by omega)
    have z1 := no_min ec1.symm c1z (by omega)
    have z2 := no_min rfl z1.1 (Int.le_refl _)
    have y1 := nwCd_1 E.2.1 t1' z1.2
    obtain ⟨s1, s2⟩ := st6 z
    refine ⟨⟨?_, ?_, y1.1, y1.2⟩, s1, by rw [← en, e7, up_eq], fun k k0 k1 => ?_⟩
    · rw [f7 _ (by decide), t4 _ (by decide), f5 _ (by decide), k4, eA]
    · rw [← eA]
      exact no_if z2.2 cd0.2
    · rw [← en, ← eA]
      exact stT_fr (s2 k k0 k1) f7 (by decide) (fr_refl [] τ6) (by decide)
end

/-! the check of a rule -/
/-- the number of a sort of rule -/
def soR (s : Int) : Int := if s = 3 then 0 else if s = 5 then 1 else if s = 4 then 2 else 3
noncomputable def clQ (σ : ga_S) (n s : Int) : ga_S := ga_up (ga_up (ga_up (ga_up (ga_up (ga_up (ga_up (ga_up (ga_up σ fR_rule 0 0 n) fQ_sort n 0 (-1)) fQ_action n 0 (-1)) fQ_object n 0 (-1)) fQ_kind n 0 (-1)) fQ_adjectives n 0 0) fQ_tests n 0 0) fQ_phrases n 0 0) fQ_sort n 0 s
def clL : List Nat := [fR_rule, fQ_sort, fQ_action, fQ_object, fQ_kind, fQ_adjectives, fQ_tests, fQ_phrases]
theorem clQ_fr (σ : ga_S) (n s : Int) : fr clL σ (clQ σ n s) := by
  unfold clQ
  exact fr_trans (fr_trans (fr_trans (fr_trans (fr_trans (fr_trans (fr_trans (fr_trans (fr_u (by decide)) (fr_u (by decide))) (fr_u (by decide))) (fr_u (by decide))) (fr_u (by decide))) (fr_u (by decide))) (fr_u (by decide))) (fr_u (by decide))) (fr_u (by decide))
theorem clQ_ok (σ : ga_S) (n s : Int) : qkp n σ (clQ σ n s) ∧ (clQ σ n s) fR_rule 0 0 = n ∧ (clQ σ n s) fQ_sort n 0 = s ∧ (clQ σ n s) fQ_action n 0 = -1 ∧ (clQ σ n s) fQ_object n 0 = -1 ∧ (clQ σ n s) fQ_kind n 0 = -1 ∧ (clQ σ n s) fQ_adjectives n 0 = 0 := by
  unfold clQ
  refine ⟨?_, ?_, ?_, ?_, ?_, ?_, ?_⟩
  · exact qkp_t (qkp_t (qkp_t (qkp_t (qkp_t (qkp_t (qkp_t (qkp_t (qkp_f (fr_u (L := [fR_rule]) (by decide)) (by decide)) (qkp_u _ _ _ _ _)) (qkp_u _ _ _ _ _)) (qkp_u _ _ _ _ _)) (qkp_u _ _ _ _ _)) (qkp_u _ _ _ _ _)) (qkp_u _ _ _ _ _)) (qkp_u _ _ _ _ _)) (qkp_u _ _ _ _ _)
  · rw [up_F (by decide), up_F (by decide), up_F (by decide), up_F (by decide), up_F (by decide), up_F (by decide), up_F (by decide), up_F (by decide), up_eq]
  · rw [up_eq]
  · rw [up_F (by decide), up_F (by decide), up_F (by decide), up_F (by decide), up_F (by decide), up_F (by decide), up_eq]
  · rw [up_F (by decide), up_F (by decide), up_F (by decide), up_F (by decide), up_F (by decide), up_eq]
  · rw [up_F (by decide), up_F (by decide), up_F (by decide), up_F (by decide), up_eq]
  · rw [up_F (by decide), up_F (by decide), up_F (by decide), up_eq]
/-- what a good rule changes in the model -/
def ruK (τ τ' : ga_S) : Prop := (∀ F, F ∈ ruL9 → ∀ k, k ≠ τ fM_rules 0 0 → τ' F 0 k = τ F 0 k) ∧ (∀ k, k < 6 * τ fM_rules 0 0 ∨ 6 * τ fM_rules 0 0 + 6 ≤ k → τ' fM_ruleAdjective 0 k = τ fM_ruleAdjective 0 k) ∧ (∀ F, F ∈ qL → ∀ k, k < τ fM_tests 0 0 → τ' F 0 k = τ F 0 k) ∧ (∀ F, F ∈ xL → ∀ k, k < τ fM_phrases 0 0 → τ' F 0 k = τ F 0 k)
def ckN : List Nat := fM_tests :: fM_phrases :: fM_rules :: ckM
section
variable {σ τ : ga_S} {f : Int} {N : Nat}
/-- the component, up to the head -/
theorem cr_begin (E : E0 σ τ f N) (hf : σ fR_fault 0 0 = 0) (hs : 3 ≤ σ fR_sort 0 0 ∧ σ fR_sort 0 0 ≤ 6) (hd0 : 0 ≤ σ fR_draft 0 0) {d : Nat} (hd : 2 ≤ d) : ∃ σ1, c_r_check (d + 2) σ = (r_checkRule_78 d σ1).bind (fun q => some (0, q.2)) ∧ KC σ σ1 ∧ FT σ1 (if σ fW_rules 0 0 = 24 then cd σ 0 0 else 1000000) ∧ fr (clL ++ k0L ++ ntL) σ σ1 ∧ σ1 fR_rule 0 0 = σ fR_draft 0 0 ∧ σ1 fQ_sort (σ fR_draft 0 0) 0 = soR (σ fR_sort 0 0) ∧ σ1 fQ_action (σ fR_draft 0 0) 0 = -1 ∧ σ1 fQ_object (σ fR_draft 0 0) 0 = -1 ∧ σ1 fQ_kind (σ fR_draft 0 0) 0 = -1 ∧ σ1 fQ_adjectives (σ fR_draft 0 0) 0 = 0 ∧ σ1 fR_itKind 0 0 = -1 ∧ σ1 fR_nounKind 0 0 = -1 := by
  obtain ⟨K1, F1, O1, q1, S1, i1, i2, _⟩ := k0_ok hf N
  obtain ⟨n, en⟩ : ∃ x, x = σ fR_draft 0 0 := ⟨_, rfl⟩
  have kf := k0_fr σ
  have dn : (k0 σ) fR_draft 0 0 = n := by rw [kf _ (by decide), en]
  rw [← en] at hd0
  obtain ⟨σ2, e2⟩ : ∃ x, x = clQ (k0 σ) n (soR (σ fR_sort 0 0)) := ⟨_, rfl⟩
  have f2 : fr clL (k0 σ) σ2 := by rw [e2]; exact clQ_fr _ _ _
  obtain ⟨g1, g2, g3, g4, g5, g6, g7⟩ := clQ_ok (k0 σ) n (soR (σ fR_sort 0 0))
  rw [← e2] at g1 g2 g3 g4 g5 g6 g7
  have K2 : KC σ σ2 := KC_q K1 f2 (by decide) (by rw [← en]; exact g1)
  have F2 := FT_f F1 f2 (by decide)
  have i12 : σ2 fR_itKind 0 0 = -1 := by rw [f2 _ (by decide)]; exact i1
  have i22 : σ2 fR_nounKind 0 0 = -1 := by rw [f2 _ (by decide)]; exact i2
  have wr : σ2 fW_rules 0 0 = σ fW_rules 0 0 := by rw [K2.1 _ (by decide)]
  obtain ⟨d, rfl⟩ : ∃ e, d = e + 1 := ⟨d - 1, by omega⟩
  -- the run up to the sort
  obtain ⟨σb, eb⟩ : ∃ x, x = ga_up (ga_up (ga_up (ga_up (ga_up (ga_up (ga_up (ga_up (k0 σ) fR_rule 0 0 n) fQ_sort n 0 (-1)) fQ_action n 0 (-1)) fQ_object n 0 (-1)) fQ_kind n 0 (-1)) fQ_adjectives n 0 0) fQ_tests n 0 0) fQ_phrases n 0 0 := ⟨_, rfl⟩
  have fb : fr clL (k0 σ) σb := by
    rw [eb]
    exact fr_trans (fr_trans (fr_trans (fr_trans (fr_trans (fr_trans (fr_trans (fr_u (by decide)) (fr_u (by decide))) (fr_u (by decide))) (fr_u (by decide))) (fr_u (by decide))) (fr_u (by decide))) (fr_u (by decide))) (fr_u (by decide))
  have e2b : σ2 = ga_up σb fQ_sort n 0 (soR (σ fR_sort 0 0)) := by rw [e2, eb]; rfl
  have rb : σb fR_rule 0 0 = n := by rw [← g2, e2b, up_F (by decide)]
  have sb : σb fR_sort 0 0 = σ fR_sort 0 0 := by rw [fb _ (by decide), kf _ (by decide)]
  have wb : σb fW_rules 0 0 = σ fW_rules 0 0 := by rw [fb _ (by decide), kf _ (by decide)]
  have cl : c_q_clear (d + 1) (ga_up (k0 σ) fR_rule 0 0 n) n = some (0, σb) := by
    rw [e_q_clear, nn_ok _ hd0, nn_ok _ hd0, nn_ok _ hd0, nn_ok _ hd0, nn_ok _ hd0, nn_ok _ hd0, nn_ok _ hd0, eb]
  have run : c_r_checkRule (d + 2) (k0 σ) = r_checkRule_56 (d + 1) σb (soR (σ fR_sort 0 0)) n := by
    rw [e_r_checkRule, dn, nn_ok _ hd0, cl]
    simp only [Option.bind_some]
    rw [sb, rb]
    unfold soR
    by_cases z3 : σ fR_sort 0 0 = 3
    · rw [if_pos z3, if_pos z3]
    · rw [if_neg z3, if_neg z3]
      by_cases z5 : σ fR_sort 0 0 = 5
      · rw [if_pos z5, if_pos z5]
      · rw [if_neg z5, if_neg z5]
        by_cases z4 : σ fR_sort 0 0 = 4
        · rw [if_pos z4, if_pos z4]
        · rw [if_neg z4, if_neg z4]
  have top : c_r_check (d + 1 + 2) σ = (c_r_checkRule (d + 2) (k0 σ)).bind (fun q => some (0, q.2)) := by
    rw [e_r_check, if_neg (by omega), if_neg (by omega), if_neg (by omega)]
    by_cases z3 : σ fR_sort 0 0 = 3
    · rw [if_pos z3]; rfl
    · rw [if_neg z3]
      by_cases z4 : σ fR_sort 0 0 = 4
      · rw [if_pos z4]; rfl
      · rw [if_neg z4]
        by_cases z5 : σ fR_sort 0 0 = 5
        · rw [if_pos z5]; rfl
        · rw [if_neg z5, if_pos (by omega)]; rfl
  rw [top, run, e_r_checkRule_56, nn_ok _ hd0, wb, ← e2b]
  by_cases z : σ fW_rules 0 0 = 24
  · obtain ⟨σ3, x1, x2, x3⟩ := k_note E.2.1 E.1.2.2.1 K2 F2 (t := 0) (r := 0) (why := 9) (by omega) (by omega) (by decide) (d := d + 1) (by omega)
    have c0 := cd_r E.2.1 (t := 0) (r := 0) (by omega) (by omega)
    rw [if_pos z, if_pos z, x1]
    simp only [Option.bind_some]
    refine ⟨σ3, rfl, KC_f K2 x2 (by decide), ?_, fr_trans (fr_sub kf (by decide)) (fr_trans (fr_sub f2 (by decide)) (fr_sub x2 (by decide))), ?_, ?_, ?_, ?_, ?_, ?_, ?_, ?_⟩
    · rw [show cd σ 0 0 = min 1000000 (cd σ 0 0) by omega]; exact x3
    · rw [x2 _ (by decide), ← en]; exact g2
    · rw [x2 _ (by decide), ← en]; exact g3
    · rw [x2 _ (by decide), ← en]; exact g4
    · rw [x2 _ (by decide), ← en]; exact g5
    · rw [x2 _ (by decide), ← en]; exact g6
    · rw [x2 _ (by decide), ← en]; exact g7
    · rw [x2 _ (by decide)]; exact i12
    · rw [x2 _ (by decide)]; exact i22
  · rw [if_neg z, if_neg z]
    refine ⟨σ2, rfl, K2, F2, fr_trans (fr_sub kf (by decide)) (fr_sub f2 (by decide)), ?_, ?_, ?_, ?_, ?_, ?_, i12, i22⟩
    · rw [← en]; exact g2
    · rw [← en]; exact g3
    · rw [← en]; exact g4
    · rw [← en]; exact g5
    · rw [← en]; exact g6
    · rw [← en]; exact g7
theorem ck_rule (E : E0 σ τ f N) (I : IN σ) (hk : rKeys τ) (eS : τ fM_story 0 = σ fT_bytes 0) (hf : σ fR_fault 0 0 = 0) (hm : τ fM_runs 0 0 ≤ 2600) (hs : 3 ≤ σ fR_sort 0 0 ∧ σ fR_sort 0 0 ≤ 6) (ht : τ fM_sort 0 0 = σ fR_sort 0 0) (U : ruR σ τ f N (σ fR_sort 0 0)) (hd0 : 0 ≤ σ fR_draft 0 0) (hq : 0 ≤ τ fM_tests 0 0 ∧ τ fM_tests 0 0 ≤ 700) (hx : 0 ≤ τ fM_phrases 0 0 ∧ τ fM_phrases 0 0 ≤ 300) (hru : τ fM_rules 0 0 = σ fW_rules 0 0 ∧ 0 ≤ σ fW_rules 0 0 ∧ σ fW_rules 0 0 ≤ 24) (hY : τ fM_isDry 0 0 = 0) {d : Nat} (hd : 14 ≤ d) : ∃ σ' τ' c nk, c_r_check (d + 2) σ = some (0, σ') ∧ c_m_asked (d + 2) τ f = some (0, τ') ∧ KC σ σ' ∧ fr ckN τ τ' ∧ FT σ' c ∧ GT τ' c ∧ τ' fM_isDry 0 0 = 0 ∧ (c ≠ 1000000 → KM τ τ') ∧ (c = 1000000 → kO σ nk ∧ ruG σ nk σ' τ' (σ fR_draft 0 0) (τ fM_rules 0 0) ∧ τ fM_rules 0 0 < 24 ∧ τ' fM_rules 0 0 = τ fM_rules 0 0 + 1 ∧ τ' fM_tests 0 0 = τ fM_tests 0 0 + σ fR_tests 0 0 + σ fR_phrases 0 0 ∧ τ' fM_phrases 0 0 = τ fM_phrases 0 0 + σ fR_phrases 0 0 ∧ (σ' fQ_tests (σ fR_draft 0 0) 0 = σ fR_tests 0 0 ∧ σ' fQ_phrases (σ fR_draft 0 0) 0 = σ fR_phrases 0 0 ∧ σ' fQ_sort (σ fR_draft 0 0) 0 = soR (σ fR_sort 0 0)) ∧ ruK τ τ') := by
  obtain ⟨n, en⟩ : ∃ x, x = σ fR_draft 0 0 := ⟨_, rfl⟩
  obtain ⟨σ1, a1, a2, a3, a4, a5, a6, a7, a8, a9, a10, a11, a12⟩ := cr_begin E hf hs hd0 (d := d) (by omega)
  -- the model, up to the head
  obtain ⟨M1, G1, Q1, p1, T1, mi, mn⟩ := a0_ok σ τ f N
  have af := a0_fr τ
  obtain ⟨τ1, b1, b2, b3, b4⟩ := m_need E M1 G1 (t := 0) (t' := f) (r := 0) (why := 9) (g := if τ fM_rules 0 0 < 24 then 1 else 0) (by omega) (by omega) (by omega) (by decide) (d := d) (by omega)
  have c0 := cd_r E.2.1 (t := 0) (r := 0) (by omega) (by omega)
  have b4' : GT τ1 (if σ fW_rules 0 0 = 24 then cd σ 0 0 else 1000000) := by
    by_cases z : σ fW_rules 0 0 = 24
    · rw [if_neg (show ¬ τ fM_rules 0 0 < 24 by omega), if_pos rfl] at b4
      rw [if_pos z, show cd σ 0 0 = min 1000000 (cd σ 0 0) by omega]; exact b4
    · rw [if_pos (show τ fM_rules 0 0 < 24 by omega), if_neg (by decide)] at b4
      rw [if_neg z]; exact b4
  obtain ⟨c1, ec1⟩ : ∃ x, x = (if σ fW_rules 0 0 = 24 then cd σ 0 0 else 1000000) := ⟨_, rfl⟩
  rw [← ec1] at a3 b4'
  obtain ⟨l, el⟩ : ∃ x : Int, x = if τ fM_rules 0 0 < 23 then τ fM_rules 0 0 else 23 := ⟨_, rfl⟩
  have hl : 0 ≤ l ∧ l < 24 := by
    rw [el]; split <;> omega
  have x1 : τ1 fM_rules 0 0 = τ fM_rules 0 0 := by rw [b3 _ (by decide)]
  -- the head
  have ruO := id U
  obtain ⟨σ2, τ2, c2, nk, nk', h1, h2, h3, h4, h5, h6, h7, h8, h9, h10, h11, h12, h13, h14, h15, h16⟩ := hd_both E hm a2 b3 a3 b4' ht U ⟨by rw [a4 _ (by decide)], a4 _ (by decide), a4 _ (by decide)⟩ hd0 a5 ⟨a8, a9, a10⟩ a7 a12 hl (d := d) hd
  obtain ⟨τ3, e3⟩ : ∃ x, x = ga_up τ2 fM_itKind 0 0 (-1) := ⟨_, rfl⟩
  have f3 : fr [fM_itKind] τ2 τ3 := by rw [e3]; exact fr_u (by decide)
  have M3 := KM_f h4 f3 (by decide)
  obtain ⟨UH, UT, UP, UO, UC⟩ := U
  -- the tests
  have TS0 : TSq σ τ (-1) nk (-1) nk' σ2 τ3 c2 0 := by
    refine ⟨h3, M3, h8, GT_f h9 f3 (by decide), by rw [h5 _ (by decide), a4 _ (by decide)], rKeepC_eq (by rw [h5 _ (by decide), a4 _ (by decide)]) (by rw [h5 _ (by decide), a4 _ (by decide)]), ⟨by rw [h5 _ (by decide)]; exact a11, h11⟩, ⟨by rw [e3, up_eq], by rw [f3 _ (by decide)]; exact h12⟩, by rw [h5 _ (by decide)]; exact a5, ?_, fun _ => ⟨by omega, fun k k0 k1 => by omega⟩⟩
    rcases h15 with z | z
    · exact Or.inl ⟨rfl, z⟩
    · exact Or.inr z.1
  obtain ⟨σ4, τ4, c4, t1, t2, t3, t4, t5, t6, t7⟩ := ts_all E hm hd0 hq UT (Or.inl rfl) h13 (Or.inl rfl) h14 (d := d) (e := d) (by omega) (by omega) TS0
  obtain ⟨K4, M4, F4, G4, R4, rk4, i4, j4, r4, _, st4⟩ := t3
  rw [← en] at t1 r4 st4
  obtain ⟨σ5, e5⟩ : ∃ x, x = ga_up (ga_up σ4 fQ_tests n 0 (σ fR_tests 0 0)) fQ_tests n 0 (σ fR_tests 0 0) := ⟨_, rfl⟩
  have f5 : fr [fQ_tests] σ4 σ5 := by rw [e5]; exact fr_trans (fr_u (by decide)) (fr_u (by decide))
  have K5 : KC σ σ5 := KC_q K4 f5 (by decide) (by rw [← en, e5]; exact qkp_t (qkp_u _ _ _ _ _) (qkp_u _ _ _ _ _))
  have dry4 : τ4 fM_isDry 0 0 = 0 := by rw [t5 _ (by decide), f3 _ (by decide), h6 _ (by decide), b2 _ (by decide), af _ (by decide)]; exact hY
  -- the phrases
  have PS0 : PSq σ τ (-1) nk (-1) nk' σ5 τ4 c4 0 := by
    refine ⟨K5, M4, FT_f F4 f5 (by decide), G4, by rw [f5 _ (by decide)]; exact R4, rKeepC_t rk4 (rKeepC_eq (f5 _ (by decide)) (f5 _ (by decide))) R4, ⟨by rw [f5 _ (by decide)]; exact i4.1, by rw [f5 _ (by decide)]; exact i4.2⟩, j4, by rw [f5 _ (by decide), ← en]; exact r4, dry4, ?_, fun z => ?_⟩
    · rcases h15 with z | z
      · exact Or.inl ⟨rfl, z⟩
      · exact Or.inr (fun k k0 k1 => by have := z.2 k k0 k1; omega)
    · obtain ⟨s1, s2⟩ := st4 z
      rw [← en]
      exact ⟨⟨s1, fun k k0 k1 => stT_fr (s2 k k0 k1) f5 (by decide) (fr_refl [] τ4) (by decide)⟩, by omega, fun k k0 k1 => by omega⟩
  obtain ⟨σ6, τ6, c6, u1, u2, u3, u4, u5, u6, u7, u8⟩ := ps_all E I hk eS hm hd0 hq hx UT.1 UP (Or.inl rfl) h13 (Or.inl rfl) h14 l (d := d) (e := d) (by omega) (by omega) 0 (Int.le_refl _) (Int.le_of_lt UP.1) σ5 τ4 c4 PS0
  obtain ⟨K6, M6, F6, G6, R6, rk6, i6, j6, r6, dry6, ag6, st6⟩ := u3
  rw [← en] at r6 st6
  obtain ⟨σ7, e7⟩ : ∃ x, x = ga_up σ6 fQ_phrases n 0 (σ fR_phrases 0 0) := ⟨_, rfl⟩
  have f7 : fr [fQ_phrases] σ6 σ7 := by rw [e7]; exact fr_u (by decide)
  have K7 : KC σ σ7 := KC_q K6 f7 (by decide) (by rw [← en, e7]; exact qkp_u _ _ _ _ _)
  have F7 := FT_f F6 f7 (by decide)
  have hn0 : 0 ≤ n := by rw [en]; exact hd0
  have hC : c_r_check (d + 2) σ = some (0, σ7) := by
    rw [a1, h1, e_r_checkRule_91, t1]
    simp only [Option.bind_some]
    rw [up_F (F' := fR_rule) (by decide), r4, nn_ok _ hn0, h3.1 fR_tests (by decide), ← e5, u1, e_r_checkRule_110, K6.1 fR_phrases (by decide), if_neg (Int.lt_irrefl _), r6, nn_ok _ hn0, ← e7]
    rfl
  have hM : c_m_asked (d + 2) τ f = (m_ruleMeant_58 d τ6 l (τ fM_tests 0 0 + σ fR_tests 0 0) (σ fR_phrases 0 0)).bind (fun q => some (0, q.2)) := by
    have top : c_m_asked (d + 2) τ f = (c_m_ruleMeant (d + 1) (a0 τ) f).bind (fun q => some (0, q.2)) := by
      rw [e_m_asked, ht, if_neg (by omega), if_neg (by omega), if_neg (by omega)]
      by_cases z3 : σ fR_sort 0 0 = 3
      · rw [if_pos z3]; rfl
      · rw [if_neg z3]
        by_cases z4 : σ fR_sort 0 0 = 4
        · rw [if_pos z4]; rfl
        · rw [if_neg z4]
          by_cases z5 : σ fR_sort 0 0 = 5
          · rw [if_pos z5]; rfl
          · rw [if_neg z5, if_pos (by omega)]; rfl
    have run : c_m_ruleMeant (d + 1) (a0 τ) f = m_ruleMeant_58 d τ6 l (τ fM_tests 0 0 + σ fR_tests 0 0) (σ fR_phrases 0 0) := by
      rw [e_m_ruleMeant, af fM_rules (by decide), if_app (m_ruleMeant_15 d (a0 τ) f), e_m_ruleMeant_15, b1]
      simp only [Option.bind_some]
      rw [x1, s_p_min (by omega)]
      simp only [Option.bind_some]
      rw [← el, h2]
      simp only [Option.bind_some]
      rw [← e3, t2]
      simp only [Option.bind_some]
      have lt : σ fR_tests 0 0 < 1700 := by
        have := (UP.2.2 0 (Int.le_refl _) UP.1).1.2.2.2.1
        omega
      have t0 := UT.1
      rw [M4 fM_tests (by decide), M4 fM_tShown (by decide), UT.2.1, w32_ok (by omega), u2]
    rw [top, run]
  have pc6 : τ6 fM_pCount 0 0 = σ fR_phrases 0 0 := by rw [M6 _ (by decide)]; exact UP.2.1
  by_cases z : c6 = 1000000
  · -- good
    have bf : τ6 fM_bestFault 0 0 = 0 := by
      rcases G6 with y | y
      · exact y.2
      · omega
    have z4 : c4 = 1000000 := by have := FT_le F4; omega
    have z2 : c2 = 1000000 := by have := FT_le h8; omega
    have z1 : c1 = 1000000 := by have := FT_le a3; omega
    have r24 : ¬ σ fW_rules 0 0 = 24 := by
      intro y
      rw [if_pos y] at ec1
      omega
    have ll : l = τ fM_rules 0 0 := by
      rw [el]; split <;> omega
    obtain ⟨⟨s1, s2⟩, s3, s4⟩ := st6 z
    have sg : τ6 fM_sort 0 0 = σ fR_sort 0 0 := by rw [M6 _ (by decide)]; exact ht
    have ts6 : τ6 fM_tests 0 0 = τ fM_tests 0 0 := by rw [M6 _ (by decide)]
    have tw6 : τ6 fM_tShown 0 0 = σ fR_tests 0 0 := by rw [M6 _ (by decide)]; exact UT.2.1
    have tp6 : τ6 fM_phrases 0 0 = τ fM_phrases 0 0 := by rw [M6 _ (by decide)]
    have tr6 : τ6 fM_rules 0 0 = τ fM_rules 0 0 := by rw [M6 _ (by decide)]
    have t0 := UT.1
    have p0 := UP.1
    obtain ⟨τ7, e8⟩ : ∃ x, x = ga_up (ga_up (ga_up (ga_up (ga_up (ga_up (ga_up (ga_up τ6 fM_ruleSort 0 l (soR (σ fR_sort 0 0))) fM_ruleFrom 0 l (τ fM_tests 0 0)) fM_ruleTests 0 l (σ fR_tests 0 0)) fM_rulePhrase 0 l (τ fM_phrases 0 0)) fM_rulePhrases 0 l (σ fR_phrases 0 0)) fM_tests 0 0 (τ fM_tests 0 0 + σ fR_tests 0 0 + σ fR_phrases 0 0)) fM_phrases 0 0 (τ fM_phrases 0 0 + σ fR_phrases 0 0)) fM_rules 0 0 (τ fM_rules 0 0 + 1) := ⟨_, rfl⟩
    have f8 : fr [fM_ruleSort, fM_ruleFrom, fM_ruleTests, fM_rulePhrase, fM_rulePhrases, fM_tests, fM_phrases, fM_rules] τ6 τ7 := by
      rw [e8]
      exact fr_trans (fr_trans (fr_trans (fr_trans (fr_trans (fr_trans (fr_trans (fr_u (by decide)) (fr_u (by decide))) (fr_u (by decide))) (fr_u (by decide))) (fr_u (by decide))) (fr_u (by decide))) (fr_u (by decide))) (fr_u (by decide))
    have q164 : m_ruleMeant_164 d τ6 l (τ fM_tests 0 0 + σ fR_tests 0 0) (soR (σ fR_sort 0 0)) l = some (0, τ7) := by
      rw [e_m_ruleMeant_164, ck_ok _ hl, ck_ok _ hl, ck_ok _ hl, ck_ok _ hl, ck_ok _ hl, ts6, tw6, tp6, tr6, pc6, w32_ok (by omega), w32_ok (by omega), w32_ok (by omega), e8]
    have hM2 : c_m_asked (d + 2) τ f = some (0, τ7) := by
      rw [hM, e_m_ruleMeant_58, pc6, if_neg (Int.lt_irrefl _), if_pos bf, sg]
      unfold soR at q164
      by_cases z3 : σ fR_sort 0 0 = 3
      · rw [if_pos z3] at q164
        rw [if_pos z3, q164]; rfl
      · rw [if_neg z3] at q164
        rw [if_neg z3]
        by_cases z5 : σ fR_sort 0 0 = 5
        · rw [if_pos z5] at q164
          rw [if_pos z5, q164]; rfl
        · rw [if_neg z5] at q164
          rw [if_neg z5]
          by_cases z4' : σ fR_sort 0 0 = 4
          · rw [if_pos z4'] at q164
            rw [if_pos z4', q164]; rfl
          · rw [if_neg z4'] at q164
            rw [if_neg z4', q164]; rfl
    have fr7 : fr ckN τ τ7 := fr_trans (fr_sub M6 (by decide)) (fr_sub f8 (by decide))
    have v1 : τ7 fM_ruleSort 0 l = soR (σ fR_sort 0 0) := by rw [e8, up_F (by decide), up_F (by decide), up_F (by decide), up_F (by decide), up_F (by decide), up_F (by decide), up_F (by decide), up_eq]
    have v2 : τ7 fM_ruleFrom 0 l = τ fM_tests 0 0 := by rw [e8, up_F (by decide), up_F (by decide), up_F (by decide), up_F (by decide), up_F (by decide), up_F (by decide), up_eq]
    have v3 : τ7 fM_ruleTests 0 l = σ fR_tests 0 0 := by rw [e8, up_F (by decide), up_F (by decide), up_F (by decide), up_F (by decide), up_F (by decide), up_eq]
    have v4 : τ7 fM_rulePhrase 0 l = τ fM_phrases 0 0 := by rw [e8, up_F (by decide), up_F (by decide), up_F (by decide), up_F (by decide), up_eq]
    have v5 : τ7 fM_rulePhrases 0 l = σ fR_phrases 0 0 := by rw [e8, up_F (by decide), up_F (by decide), up_F (by decide), up_eq]
    have v6 : τ7 fM_tests 0 0 = τ fM_tests 0 0 + σ fR_tests 0 0 + σ fR_phrases 0 0 := by rw [e8, up_F (by decide), up_F (by decide), up_eq]
    have v7 : τ7 fM_phrases 0 0 = τ fM_phrases 0 0 + σ fR_phrases 0 0 := by rw [e8, up_F (by decide), up_eq]
    have v8 : τ7 fM_rules 0 0 = τ fM_rules 0 0 + 1 := by rw [e8, up_eq]
    have w1 : σ7 fQ_sort n 0 = soR (σ fR_sort 0 0) := by rw [f7 _ (by decide), u4 _ (by decide), f5 _ (by decide), t4 _ (by decide), h5 _ (by decide), en]; exact a6
    have w2 : σ7 fQ_tests n 0 = σ fR_tests 0 0 := by rw [f7 _ (by decide), u4 _ (by decide), e5, up_eq]
    have w3 : σ7 fQ_phrases n 0 = σ fR_phrases 0 0 := by rw [e7, up_eq]
    have so : 0 ≤ soR (σ fR_sort 0 0) ∧ soR (σ fR_sort 0 0) ≤ 3 ∧ (soR (σ fR_sort 0 0) = 3 ↔ σ fR_sort 0 0 = 6) := by
      unfold soR
      repeat' split
      all_goals omega
    have f27 : fr (phcL ++ fQ_tests :: fQ_phrases :: tstL) σ2 σ7 := fr_trans (fr_sub t4 (by decide)) (fr_trans (fr_sub f5 (by decide)) (fr_trans (fr_sub u4 (by decide)) (fr_sub f7 (by decide))))
    have g27 : fr (phmL ++ fM_itKind :: fM_ruleSort :: fM_ruleFrom :: fM_ruleTests :: fM_rulePhrase :: fM_rulePhrases :: fM_tests :: fM_phrases :: fM_rules :: tstM) τ2 τ7 := fr_trans (fr_sub f3 (by decide)) (fr_trans (fr_sub t5 (by decide)) (fr_trans (fr_sub u5 (by decide)) (fr_sub f8 (by decide))))
    have hdG7 : (soR (σ fR_sort 0 0) = 3 ∧ nk = -1 ∧ hdZ σ7 τ7 n l) ∨ (soR (σ fR_sort 0 0) ≠ 3 ∧ hdG σ nk σ7 τ7 n l) := by
      rcases h16 z2 with y | y
      · refine Or.inl ⟨so.2.2.mpr y.1, y.2.1, ?_⟩
        have := y.2.2
        rw [← en] at this
        unfold hdZ at this ⊢
        rw [f27 fQ_action (by decide), f27 fQ_object (by decide), f27 fQ_kind (by decide), f27 fQ_adjectives (by decide), g27 fM_ruleAction (by decide), g27 fM_ruleObject (by decide), g27 fM_ruleKind (by decide), g27 fM_ruleAdjectives (by decide)]
        exact this
      · refine Or.inr ⟨fun v => y.1 (so.2.2.mp v), ?_⟩
        have := y.2
        rw [← en] at this
        exact hdG_fr this f27 (by decide) g27 (by decide)
    have dry7 : τ7 fM_isDry 0 0 = 0 := by rw [f8 _ (by decide)]; exact dry6
    have ro7 : ruK τ τ7 := by
      have l0 : l = τ fM_rules 0 0 := ll
      refine ⟨fun F hF k hkk => ?_, fun k hkk => ?_, fun F hF k hkk => ?_, fun F hF k hkk => ?_⟩
      · rw [← l0] at hkk
        by_cases c : F ∈ roL
        · have e87 : τ7 F = τ2 F := g27 F (mem_no (L := roL) (by decide) F c)
          rw [e87, h7.1 F c k hkk, b2 F (mem_no (L := roL) (by decide) F c), af F (mem_no (L := roL) (by decide) F c)]
        · have c9 : F ∈ [fM_ruleSort, fM_ruleFrom, fM_ruleTests, fM_rulePhrase, fM_rulePhrases] := by
            have : F ∈ roL ++ [fM_ruleSort, fM_ruleFrom, fM_ruleTests, fM_rulePhrase, fM_rulePhrases] := hF
            exact (List.mem_append.mp this).resolve_left c
          have e62 : τ6 F = τ F := by
            rw [u5 F (mem_no (L := [fM_ruleSort, fM_ruleFrom, fM_ruleTests, fM_rulePhrase, fM_rulePhrases]) (by decide) F c9), t5 F (mem_no (L := [fM_ruleSort, fM_ruleFrom, fM_ruleTests, fM_rulePhrase, fM_rulePhrases]) (by decide) F c9), f3 F (mem_no (L := [fM_ruleSort, fM_ruleFrom, fM_ruleTests, fM_rulePhrase, fM_rulePhrases]) (by decide) F c9), h6 F (mem_no (L := [fM_ruleSort, fM_ruleFrom, fM_ruleTests, fM_rulePhrase, fM_rulePhrases]) (by decide) F c9), b2 F (mem_no (L := [fM_ruleSort, fM_ruleFrom, fM_ruleTests, fM_rulePhrase, fM_rulePhrases]) (by decide) F c9), af F (mem_no (L := [fM_ruleSort, fM_ruleFrom, fM_ruleTests, fM_rulePhrase, fM_rulePhrases]) (by decide) F c9)]
          have n1 : F ≠ fM_rules := fun v => by subst v; exact absurd c9 (by decide)
          have n2 : F ≠ fM_phrases := fun v => by subst v; exact absurd c9 (by decide)
          have n3 : F ≠ fM_tests := fun v => by subst v; exact absurd c9 (by decide)
          rw [e8, up_F n1, up_F n2, up_F n3, up_j hkk, up_j hkk, up_j hkk, up_j hkk, up_j hkk, e62]
      · rw [← l0] at hkk
        rw [g27 fM_ruleAdjective (by decide), h7.2 k hkk, b2 fM_ruleAdjective (by decide), af fM_ruleAdjective (by decide)]
      · have e1 : τ7 F = τ6 F := f8 F (mem_no (L := qL) (by decide) F hF)
        have e9 : τ3 F = τ F := by rw [f3 F (mem_no (L := qL) (by decide) F hF), h6 F (mem_no (L := qL) (by decide) F hF), b2 F (mem_no (L := qL) (by decide) F hF), af F (mem_no (L := qL) (by decide) F hF)]
        rw [e1, u6 F hF k (by omega), t6 F hF k (Or.inl hkk), e9]
      · have e1 : τ7 F = τ6 F := f8 F (mem_no (L := xL) (by decide) F hF)
        have e9 : τ4 F = τ F := by rw [t5 F (mem_no (L := xL) (by decide) F hF), f3 F (mem_no (L := xL) (by decide) F hF), h6 F (mem_no (L := xL) (by decide) F hF), b2 F (mem_no (L := xL) (by decide) F hF), af F (mem_no (L := xL) (by decide) F hF)]
        rw [e1, u7 F hF k hkk, e9]
    refine ⟨σ7, τ7, c6, nk, hC, hM2, K7, fr7, F7, GT_f G6 f8 (by decide), dry7, fun y => absurd z y, fun _ => ⟨h13, ?_, by omega, v8, v6, v7, ⟨by rw [← en]; exact w2, by rw [← en]; exact w3, by rw [← en]; exact w1⟩, ro7⟩⟩
    rw [← en, ← ll]
    refine ⟨⟨by rw [v1, w1], by rw [w1]; exact so.1, by rw [w1]; exact so.2.1⟩, by rw [w1]; exact hdG7, ⟨by rw [v3, w2], by rw [w2]; exact t0, by rw [w2]; exact s1⟩, ⟨by rw [v5, w3], by rw [w3]; omega, by rw [w3]; exact s3⟩, ⟨by rw [v2]; omega, by rw [v2, w2, w3, v6]; omega⟩, ⟨by rw [v4]; omega, by rw [v4, w3, v7]; omega⟩, fun k k0 k1 => ?_, fun k k0 k1 => ?_⟩
    · rw [w2] at k1
      rw [v2]
      exact stT_fr (s2 k k0 k1) f7 (by decide) f8 (by decide)
    · rw [w3] at k1
      rw [v2, w2, v4]
      exact stP_fr (s4 k k0 k1) f7 (by decide) f8 (by decide) (by decide)
  · -- wrong
    have bf : ¬ τ6 fM_bestFault 0 0 = 0 := by
      rcases G6 with y | y
      · exact absurd y.1 z
      · rw [y.2.2.2.2]; exact fOf_0 _
    refine ⟨σ7, τ6, c6, nk, hC, ?_, K7, fr_sub M6 (by decide), F7, G6, dry6, fun _ => M6, fun y => absurd y z⟩
    rw [hM, e_m_ruleMeant_58, pc6, if_neg (Int.lt_irrefl _), if_neg bf]
    rfl
end

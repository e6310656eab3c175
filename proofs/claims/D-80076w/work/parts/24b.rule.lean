/-! a rule, on both sides -/
theorem mb_phrases {τ : ga_S} {d : Nat} (hd : 4 ≤ d) (hb : τ fM_isBad 0 0 = 1) (hi : 0 ≤ τ fM_pCount 0 0 ∧ τ fM_pCount 0 0 < 1700) (hj : 0 ≤ τ fM_tCount 0 0 ∧ τ fM_tCount 0 0 < 1700) (ha : 0 ≤ τ fM_at 0 0 ∧ τ fM_at 0 0 ≤ 5002) : ∃ τ', c_m_phrases d τ = some (0, τ') ∧ fr [fM_pFirst, fM_pTest, fM_tFirst, fM_pCount] τ τ' := by
  obtain ⟨d, rfl⟩ : ∃ e, d = e + 1 + 1 := ⟨d - 2, by omega⟩
  obtain ⟨τ1, e1⟩ : ∃ x, x = ga_up (ga_up (ga_up τ fM_pFirst 0 (τ fM_pCount 0 0) (τ fM_at 0 0)) fM_pTest 0 (τ fM_pCount 0 0) (τ fM_tCount 0 0)) fM_tFirst 0 (τ fM_tCount 0 0) (τ fM_at 0 0) := ⟨_, rfl⟩
  have f1 : fr [fM_pFirst, fM_pTest, fM_tFirst, fM_pCount] τ τ1 := by rw [e1]; exact fr_trans (fr_trans (fr_u (by decide)) (fr_u (by decide))) (fr_u (by decide))
  have b1 : τ1 fM_isBad 0 0 = 1 := by rw [f1 _ (by decide)]; exact hb
  have a1 : τ1 fM_at 0 0 = τ fM_at 0 0 := by rw [f1 _ (by decide)]
  have e2 : ga_up (ga_up τ1 fM_at 0 0 (τ fM_at 0 0 + 1)) fM_at 0 0 (τ fM_at 0 0) = τ1 := by
    rw [up_up]; exact up_id a1
  obtain ⟨τ2, e3⟩ : ∃ x, x = ga_up τ1 fM_pCount 0 0 (w32 (τ1 fM_pCount 0 0 + 1)) := ⟨_, rfl⟩
  have f2 : fr [fM_pFirst, fM_pTest, fM_tFirst, fM_pCount] τ1 τ2 := by rw [e3]; exact fr_u (by decide)
  refine ⟨τ2, ?_, fr_trans f1 f2⟩
  rw [e_m_phrases, e_m_phrase, ck_ok _ hi, ck_ok _ hi, ck_ok _ hj, ← e1, mb_look (by omega) b1]
  simp only [Option.bind_some]
  rw [if_neg (by decide), if_neg (by decide), if_neg (by decide), if_neg (by decide), if_neg (by decide), if_neg (by decide), if_neg (by decide), a1, w32_ok (by omega), w32_ok (by omega), show τ fM_at 0 0 + 1 - 1 = τ fM_at 0 0 from by omega, e2, mb_odd (by omega) b1]
  simp only [Option.bind_some]
  rw [e_m_phrase_409, if_neg (by omega), ← e3]
  simp only [Option.bind_some]
  rw [e_m_phrases_4, mb_isNext (by omega) (by rw [f2 _ (by decide)]; exact b1)]
  simp only [Option.bind_some]
  rw [if_pos trivial]
/-- colon and phrases -/
theorem P_phrs {σ τ : ga_S} {f : Int} {N : Nat} {pl : Int → Int} (hE : ENV σ τ f N) (hP : PR σ τ f N) (hJ : JR σ τ) (hL : LEN pl (σ fT_kinds 0) N) (h0 : 0 ≤ τ fM_tCount 0 0 ∧ τ fM_tCount 0 0 < 1700) (hp : σ fR_phrases 0 0 = 0 ∧ τ fM_pCount 0 0 = 0) (hg : σ fR_bad 0 0 = -1 → 3 * τ fM_tCount 0 0 ≤ pl (σ fR_p 0 0)) {d : Nat} (hd : 10 ≤ d) : ∃ σ' τ', r_ruleShape_156 d σ = some (0, σ') ∧ m_rule1_107 d τ = some (0, τ') ∧ PE σ' τ' f N ∧ fr psC σ σ' ∧ fr phM τ τ' ∧ (σ' fR_bad 0 0 = -1 → τ' fM_isBad 0 0 = 0 → 2 * τ' fM_runs 0 0 ≤ 5001 ∧ σ fR_bad 0 0 = -1 ∧ σ' fR_runs 0 0 = σ fR_runs 0 0 ∧ rKeepC σ σ' ∧ rKeep τ τ' ∧ (∀ j, j < τ fM_tCount 0 0 → rowE τ τ' j) ∧ 0 < σ' fR_phrases 0 0 ∧ σ' fR_phrases 0 0 = τ' fM_pCount 0 0 ∧ ∀ i, 0 ≤ i → i < σ' fR_phrases 0 0 → peR (σ fT_kinds 0) (σ fR_runs 0 0) τ' f N (σ' fR_phraseFrom 0 i) (σ' fR_phraseTo 0 i) i (τ fM_tCount 0 0 + i) ∧ σ fR_p 0 0 ≤ σ' fR_phraseFrom 0 i) := by
  have hf := hE.1
  have hN := hE.2.1
  obtain ⟨v, σ1, τ1, c1, m1, Q, f1, g1, ok⟩ := S_take hE hP hJ (d := d) (by omega) (c := 6) (m := 58) (by decide) (by decide) (by decide) (by decide)
  have E1 := SQ_E Q hE
  have K1 : σ1 fT_kinds = σ fT_kinds := f1 _ (by decide)
  rw [e_r_ruleShape_156, c1, e_m_rule1_107, m1]
  simp only [Option.bind_some]
  by_cases cb : σ1 fR_bad 0 0 = -1
  · obtain ⟨o1, o2, o3⟩ := ok cb
    have okP := PR_ok Q.1 cb
    have okP0 := PR_ok hP o1
    have le := LEN_le hL (a := σ fR_p 0 0) (b := σ1 fR_p 0 0) okP0.2.1 (by omega) okP.2.2.1
    have h3 := hg o1
    obtain ⟨e, rfl⟩ : ∃ e, d = e + 1 := ⟨d - 1, by omega⟩
    have t1 : τ1 fM_tCount 0 0 = τ fM_tCount 0 0 := by rw [g1 _ (by decide)]
    have p1 : τ1 fM_pCount 0 0 = 0 := by rw [g1 _ (by decide)]; exact hp.2
    have p2 : σ1 fR_phrases 0 0 = 0 := by rw [f1 _ (by decide)]; exact hp.1
    obtain ⟨σ', τ', c2, m2, X⟩ := ps_loop (pl := pl) (d := e) (by omega) (N + 1 - σ1 fR_p 0 0).toNat σ1 τ1 E1 Q.1 Q.2.1 cb (by omega) (by rw [K1]; exact hL) (by rw [t1]; omega) (by rw [p1, p2]) (by rw [p1]; exact Int.le_refl _) (by rw [p1, t1]; exact h0.1)
    obtain ⟨X1, X2, X3, X4, X5, X6, X7, X8, X9, X10, X11⟩ := X
    refine ⟨σ', τ', ?_, ?_, X1, fr_trans (fr_sub f1 (by decide)) X3, fr_trans (fr_sub g1 (by decide)) X4, fun z1 z2 => ⟨X2.2.2.1, o1, ?_, ?_, rKeep_trans Q.2.2.2.2.2.1 X7, fun j hj F hF => ?_, ?_⟩⟩
    · rw [if_pos cb, e_r_ruleShape_177, e_r_ruleShape_178, if_neg (by decide)]
      exact go_mono c2 (by omega)
    · rw [e_m_phrases, m2]
      simp only [Option.bind_some]
    · rw [X5, f1 _ (by decide)]
    · exact rKeepC_trans (rKeepC_eq (f1 _ (by decide)) (f1 _ (by decide))) (by rw [f1 _ (by decide)]; exact Int.le_refl _) X6
    · rw [X8 j (by rw [t1]; exact hj) F hF, g1 F (mem_no (L := tA) (by decide) F hF)]
    · obtain ⟨Y1, Y2, Y3⟩ := X11 z1 z2
      rw [p1] at Y2 Y3
      rw [p2, K1, t1, f1 fR_runs (by decide)] at Y3
      refine ⟨by omega, Y1, fun i h1 h2 => ?_⟩
      have := Y3 i h1 h2
      rw [Int.sub_zero] at this
      exact ⟨this.1, by have := this.2; omega⟩
  · have b1 : τ1 fM_isBad 0 0 = 1 := by
      rcases Q.1.2 with g | g
      · exact absurd g.1 cb
      · exact g.2.2.1
    have R1 := Q.1.1
    obtain ⟨τ2, m2, g2⟩ := mb_phrases (τ := τ1) (d := d) (by omega) b1 (by rw [g1 _ (by decide), hp.2]; omega) (by rw [g1 _ (by decide)]; exact h0) (by omega)
    refine ⟨σ1, τ2, ?_, ?_, Or.inl (PR_c Q.1 rfl rfl (g2 _ (by decide)) (g2 _ (by decide)) (g2 _ (by decide))), fr_sub f1 (by decide), fr_trans (fr_sub g1 (by decide)) (fr_sub g2 (by decide)), fun z => absurd z cb⟩
    · rw [if_neg cb, e_r_ruleShape_177, e_r_ruleShape_178, if_pos rfl]
    · rw [m2]
      simp only [Option.bind_some]
/-- when, and its tests -/
theorem P_when {σ τ : ga_S} {f : Int} {N : Nat} {pl : Int → Int} (hE : ENV σ τ f N) (hP : PR σ τ f N) (hJ : JR σ τ) (hL : LEN pl (σ fT_kinds 0) N) (ht : σ fR_tests 0 0 = 0 ∧ τ fM_tCount 0 0 = 0 ∧ τ fM_tShown 0 0 = 0) {d : Nat} (hd : 10 ≤ d) : ∃ σ' τ', r_ruleShape_139 d σ = r_ruleShape_156 d σ' ∧ m_rule1_83 d τ = m_rule1_107 d τ' ∧ PR σ' τ' f N ∧ JR σ' τ' ∧ fr teC σ σ' ∧ fr teM' τ τ' ∧ (0 ≤ τ' fM_tCount 0 0 ∧ τ' fM_tCount 0 0 < 1700) ∧ (σ' fR_bad 0 0 = -1 → σ fR_bad 0 0 = -1 ∧ σ' fR_runs 0 0 = σ fR_runs 0 0 ∧ rKeepC σ σ' ∧ rKeep τ τ' ∧ 3 * τ' fM_tCount 0 0 ≤ pl (σ' fR_p 0 0) ∧ σ' fR_tests 0 0 = τ' fM_tCount 0 0 ∧ τ' fM_tShown 0 0 = τ' fM_tCount 0 0 ∧ σ fR_p 0 0 ≤ σ' fR_p 0 0 ∧ ∀ i, 0 ≤ i → i < σ' fR_tests 0 0 → teR (σ fT_kinds 0) (σ fR_runs 0 0) τ' f N (σ' fR_testFrom 0 i) (σ' fR_testTo 0 i) 0 i ∧ σ fR_p 0 0 ≤ σ' fR_testFrom 0 i) := by
  have hf := hE.1
  have hN := hE.2.1
  rw [e_r_ruleShape_139, s_r_takes hE hP (by omega), e_m_rule1_83, s_nx hE hP (by omega) (c := 46) (by decide) (by decide)]
  simp only [Option.bind_some]
  by_cases ck : σ fR_bad 0 0 = -1 ∧ σ fT_kinds 0 (σ fR_p 0 0) = 46
  · obtain ⟨P1, lt, at1⟩ := PR_1 hE hP (c := 46) ck (by decide) (by decide)
    have R := hP.1
    rw [decide_eq_true ck, if_pos ck, if_neg b2i_n, if_neg b2i_n, w32_ok (by omega)]
    obtain ⟨σ1, e1⟩ : ∃ x, x = ga_up σ fR_p 0 0 (σ fR_p 0 0 + 1) := ⟨_, rfl⟩
    obtain ⟨τ1, e2⟩ : ∃ x, x = ga_up τ fM_at 0 0 (τ fM_at 0 0 + 1) := ⟨_, rfl⟩
    rw [← e1, ← e2] at P1 ⊢
    have f1 : fr [fR_p] σ σ1 := by rw [e1]; exact fr_u (by decide)
    have g1 : fr [fM_at] τ τ1 := by rw [e2]; exact fr_u (by decide)
    have E1 : ENV σ1 τ1 f N := ENV_c hE (f1 _ (by decide)) (g1 _ (by decide))
    have p1 : σ1 fR_p 0 0 = σ fR_p 0 0 + 1 := by rw [e1, up_eq]
    have J1 : JR σ1 τ1 := JR_mv hJ (by rw [f1 _ (by decide)]) (by rw [g1 _ (by decide)]) (f1 _ (by decide)) (fun _ => ⟨ck.1, Or.inr (by omega)⟩)
    have t1 : τ1 fM_tCount 0 0 = 0 := by rw [g1 _ (by decide)]; exact ht.2.1
    have t2 : σ1 fR_tests 0 0 = 0 := by rw [f1 _ (by decide)]; exact ht.1
    have K1 : σ1 fT_kinds = σ fT_kinds := f1 _ (by decide)
    have l3 := LEN_3 hL (a := σ fR_p 0 0) (b := σ fR_p 0 0 + 1) R.1 (by omega) (by omega) (Or.inr (Or.inl ck.2))
    have l0 := LEN_le hL (a := 0) (b := σ fR_p 0 0) (Int.le_refl _) R.1 R.2.1
    have l00 := hL.1
    obtain ⟨σ2, τ2, c2, m2, X⟩ := P_tests (pl := pl) (c := 3) (by decide) E1 P1 J1 (by rw [t1]; omega) (by rw [K1]; exact hL) (fun _ => ⟨by rw [t1, p1]; omega, by rw [t1, t2]⟩) (d := d) (by omega) 6
    obtain ⟨X1, X2, X3, X4, X5, X6, X7, X8, X9, X10, X11⟩ := X
    rw [t1] at X9
    refine ⟨σ2, τ2, ?_, ?_, X1, X2, fr_trans (fr_sub f1 (by decide)) X3, fr_trans (fr_sub g1 (by decide)) X4, by omega, fun z => ?_⟩
    · rw [c2]; simp only [Option.bind_some]
    · rw [m2]; simp only [Option.bind_some]
    · obtain ⟨Y1, Y2, Y3, Y4, Y0, Y5⟩ := X11 z
      rw [t2, K1, f1 fR_runs (by decide), p1] at Y5
      rw [p1] at Y0
      exact ⟨ck.1, by rw [X5, f1 _ (by decide)], rKeepC_trans (rKeepC_eq (f1 _ (by decide)) (f1 _ (by decide))) (by rw [f1 _ (by decide)]; exact Int.le_refl _) X6, rKeep_trans (rKeep_eq (g1 _ (by decide)) (g1 _ (by decide)) (g1 _ (by decide))) X7, by omega, Y1, Y2, by omega, fun i x y => ⟨(Y5 i x y).1, by have := (Y5 i x y).2; omega⟩⟩
  · rw [decide_eq_false ck, if_neg ck, if_pos b2i_f, if_pos b2i_f]
    refine ⟨σ, τ, rfl, rfl, hP, hJ, fr_refl _ _, fr_refl _ _, by rw [ht.2.1]; omega, fun z => ⟨z, rfl, rKeepC_eq rfl rfl, rKeep_refl _, ?_, by rw [ht.1, ht.2.1], by rw [ht.2.1, ht.2.2], Int.le_refl _, fun i h1 h2 => by rw [ht.1] at h2; omega⟩⟩
    have ok := PR_ok hP z
    have l0 := LEN_le hL (a := 0) (b := σ fR_p 0 0) (Int.le_refl _) ok.2.1 ok.2.2.1
    have l00 := hL.1
    rw [ht.2.1]
    omega

/-! a rule's head, and a rule whole -/
def hdR (σ τ : ga_S) (f s : Int) : Prop := (s = 6 ∧ σ fR_runs 0 0 = 0) ∨ (s ≠ 6 ∧ 1 ≤ σ fR_runs 0 0 ∧ rr σ τ f 0 (τ fM_actingRun 0 0) ∧ ((σ fR_runs 0 0 = 1 ∧ τ fM_actingOther 0 0 = -1) ∨ (σ fR_runs 0 0 = 2 ∧ 0 ≤ τ fM_actingOther 0 0 ∧ rr σ τ f 1 (τ fM_actingOther 0 0))))
theorem hdR_keep {σ σ' τ τ' : ga_S} {f s : Int} (h : hdR σ τ f s) (hr : σ' fR_runs 0 0 = σ fR_runs 0 0) (hk : rKeepC σ σ') (hm : rKeep τ τ') (hs : σ' fT_kinds = σ fT_kinds) (h1 : τ' fM_actingRun = τ fM_actingRun) (h2 : τ' fM_actingOther = τ fM_actingOther) : hdR σ' τ' f s := by
  unfold hdR at h ⊢
  rw [hr, h1, h2]
  rcases h with h | ⟨g1, g2, g3, g4⟩
  · exact Or.inl h
  · refine Or.inr ⟨g1, g2, rr_keep g3 (by omega) hk hm hs, ?_⟩
    rcases g4 with g4 | ⟨g4, g5, g6⟩
    · exact Or.inl g4
    · exact Or.inr ⟨g4, g5, rr_keep g6 (by omega) hk hm hs⟩
theorem rr_u {σ τ τ' : ga_S} {f i r : Int} (h : rr σ τ f i r) {L : List Nat} (hf : fr L τ τ') (h1 : fM_runs ∉ L) (h2 : fM_runFrom ∉ L) (h3 : fM_runSize ∉ L) : rr σ τ' f i r := rnR_keep h (rKeep_eq (hf _ h1) (hf _ h2) (hf _ h3)) rfl
def hdC : List Nat := fR_sort :: rcL
def hdM : List Nat := fM_sort :: fM_actingRun :: fM_actingOther :: rmL
/-- the names ahead of when -/
theorem P_h75 {σ τ : ga_S} {f : Int} {N : Nat} (hE : ENV σ τ f N) (hP : PR σ τ f N) (hJ : JR σ τ) {s : Int} (hs : σ fR_sort 0 0 = s) (hr : σ fR_runs 0 0 = 0 ∧ τ fM_runs 0 0 = 0) {d : Nat} (hd : 4 ≤ d) : ∃ σ' τ', r_ruleShape_75 d σ = r_ruleShape_139 d σ' ∧ m_rule1_26 d τ s = m_rule1_83 d τ' ∧ PR σ' τ' f N ∧ JR σ' τ' ∧ fr rcL σ σ' ∧ fr (fM_actingRun :: fM_actingOther :: rmL) τ τ' ∧ (σ' fR_bad 0 0 = -1 → hdR σ' τ' f s ∧ OR σ') := by
  have hf := hE.1
  have hN := hE.2.1
  rw [e_r_ruleShape_75, e_m_rule1_26, hs]
  by_cases c6 : s = 6
  · obtain ⟨v, σ1, τ1, c1, m1, Q, f1, g1, ok⟩ := S_take hE hP hJ (d := d) (by omega) (c := 51) (m := 142) (by decide) (by decide) (by decide) (by decide)
    rw [if_pos c6, if_pos c6, c1, m1]
    simp only [Option.bind_some]
    exact ⟨σ1, τ1, rfl, rfl, Q.1, Q.2.1, Q.2.2.1, fr_sub Q.2.2.2.1 (by decide), fun _ => ⟨Or.inl ⟨c6, by rw [f1 _ (by decide)]; exact hr.1⟩, OR_0 (by rw [f1 _ (by decide)]; exact hr.1)⟩⟩
  · obtain ⟨r, σ1, τ1, c1, m1, Q, G⟩ := S_run hE hP hJ (d := d) (by omega)
    rw [if_neg c6, if_neg c6, c1, m1]
    simp only [Option.bind_some]
    obtain ⟨τ2, e2⟩ : ∃ x, x = ga_up (ga_up τ1 fM_actingRun 0 0 r) fM_actingOther 0 0 (-1) := ⟨_, rfl⟩
    rw [← e2]
    have g2 : fr [fM_actingRun, fM_actingOther] τ1 τ2 := by rw [e2]; exact fr_trans (fr_u (by decide)) (fr_u (by decide))
    have E1 := SQ_E Q hE
    have E2 : ENV σ1 τ2 f N := ENV_c E1 rfl (g2 _ (by decide))
    have P2 : PR σ1 τ2 f N := PR_c Q.1 rfl rfl (g2 _ (by decide)) (g2 _ (by decide)) (g2 _ (by decide))
    have J2 : JR σ1 τ2 := JR_mv Q.2.1 rfl (by rw [g2 _ (by decide)]) rfl (fun z => ⟨z, Or.inl rfl⟩)
    rw [s_m_look E2 P2 (by omega)]
    simp only [Option.bind_some]
    rw [s_m_isArt (by omega)]
    simp only [Option.bind_some]
    by_cases cb : σ1 fR_bad 0 0 = -1
    · have ok := PR_ok Q.1 cb
      have O1 := OR_run (OR_0 hr.1) Q G (by rw [hr.1]; exact Int.le_refl _) cb
      obtain ⟨G1, G2, G3, G4, G5⟩ := G cb
      rw [hr.1] at G2 G4
      rw [hr.2] at G1 G3 G4
      have K := E1.2.2.2.1 _ ok.2.1 ok.2.2.1
      have aR : τ2 fM_actingRun 0 0 = 0 := by rw [e2, up_F (by decide), up_eq]; exact G1
      have aO : τ2 fM_actingOther 0 0 = -1 := by rw [e2, up_eq]
      have at2 : τ2 fM_at 0 0 = f + σ1 fR_p 0 0 := by rw [g2 _ (by decide)]; exact ok.2.2.2
      have r0 : rr σ1 τ2 f 0 0 := rr_u G4 g2 (by decide) (by decide) (by decide)
      rw [if_pos cb, if_pos cb, ck_ok _ (by omega), nn_ok _ (by omega), s_k_isArticle (by omega)]
      simp only [Option.bind_some]
      by_cases ca : 9 ≤ σ1 fT_kinds 0 (σ1 fR_p 0 0) ∧ σ1 fT_kinds 0 (σ1 fR_p 0 0) ≤ 12
      · have lt : σ1 fR_p 0 0 < N := ENV_lt E1 ok.2.2.1 rfl (by omega) (by omega)
        have P3 := PR_step P2 cb (n := 1) (by omega) (by omega)
        rw [decide_eq_true ca, if_neg b2i_n, decide_eq_true ((cdM_art ⟨K.1, K.2.1⟩).mpr ca), if_neg b2i_n, w32_ok (by omega), w32_ok (by omega)]
        obtain ⟨σ3, e3⟩ : ∃ x, x = ga_up σ1 fR_p 0 0 (σ1 fR_p 0 0 + 1) := ⟨_, rfl⟩
        obtain ⟨τ3, e4⟩ : ∃ x, x = ga_up τ2 fM_at 0 0 (τ2 fM_at 0 0 + 1) := ⟨_, rfl⟩
        rw [← e3, ← e4] at P3 ⊢
        have f3 : fr [fR_p] σ1 σ3 := by rw [e3]; exact fr_u (by decide)
        have g3 : fr [fM_at] τ2 τ3 := by rw [e4]; exact fr_u (by decide)
        have E3 : ENV σ3 τ3 f N := ENV_c E2 (f3 _ (by decide)) (g3 _ (by decide))
        have J3 : JR σ3 τ3 := JR_mv J2 (by rw [f3 _ (by decide)]) (by rw [g3 _ (by decide)]) (f3 _ (by decide)) (fun _ => ⟨cb, Or.inr (by rw [e3, up_eq]; omega)⟩)
        have r3 : rr σ3 τ3 f 0 0 := rr_keep (rr_u r0 g3 (by decide) (by decide) (by decide)) (by omega) (rKeepC_eq (f3 _ (by decide)) (f3 _ (by decide))) (rKeep_refl _) (f3 _ (by decide))
        obtain ⟨r', σ4, τ4, c4, m4, Q4, G4'⟩ := S_run E3 P3 J3 (d := d) (by omega)
        rw [c4, m4]
        simp only [Option.bind_some]
        obtain ⟨τ5, e5⟩ : ∃ x, x = ga_up τ4 fM_actingOther 0 0 r' := ⟨_, rfl⟩
        rw [← e5]
        have g5 : fr [fM_actingOther] τ4 τ5 := by rw [e5]; exact fr_u (by decide)
        refine ⟨σ4, τ5, rfl, rfl, PR_c Q4.1 rfl rfl (g5 _ (by decide)) (g5 _ (by decide)) (g5 _ (by decide)), JR_mv Q4.2.1 rfl (by rw [g5 _ (by decide)]) rfl (fun z => ⟨z, Or.inl rfl⟩), fr_trans (fr_trans Q.2.2.1 (fr_sub f3 (by decide))) Q4.2.2.1, fr_trans (fr_trans (fr_trans (fr_sub Q.2.2.2.1 (by decide)) (fr_sub g2 (by decide))) (fr_sub g3 (by decide))) (fr_trans (fr_sub Q4.2.2.2.1 (by decide)) (fr_sub g5 (by decide))), fun z => ?_⟩
        obtain ⟨H1, H2, H3, H4, _⟩ := G4' z
        rw [f3 _ (by decide), G2] at H2 H4
        rw [g3 _ (by decide), g2 _ (by decide), G3] at H1 H3 H4
        have aR5 : τ5 fM_actingRun 0 0 = 0 := by rw [g5 _ (by decide), Q4.2.2.2.1 _ (by decide), g3 _ (by decide)]; exact aR
        have aO5 : τ5 fM_actingOther 0 0 = 1 := by rw [e5, up_eq]; omega
        have O3 : OR σ3 := OR_mv O1 (by rw [f3 _ (by decide)]) (rKeepC_eq (f3 _ (by decide)) (f3 _ (by decide))) (by rw [e3, up_eq]; omega)
        refine ⟨Or.inr ⟨c6, by omega, ?_, Or.inr ⟨by omega, by omega, ?_⟩⟩, OR_run O3 Q4 G4' (by rw [f3 _ (by decide)]; omega) z⟩
        · rw [aR5]
          exact rr_u (rr_Q r3 (by rw [f3 _ (by decide)]; omega) Q4) g5 (by decide) (by decide) (by decide)
        · rw [aO5]
          exact rr_u H4 g5 (by decide) (by decide) (by decide)
      · rw [decide_eq_false ca, if_pos b2i_f, decide_eq_false (fun z => ca ((cdM_art ⟨K.1, K.2.1⟩).mp z)), if_pos b2i_f]
        refine ⟨σ1, τ2, rfl, rfl, P2, J2, Q.2.2.1, fr_trans (fr_sub Q.2.2.2.1 (by decide)) (fr_sub g2 (by decide)), fun _ => ⟨Or.inr ⟨c6, by omega, by rw [aR]; exact r0, Or.inl ⟨by omega, aO⟩⟩, O1⟩⟩
    · rw [if_neg cb, if_neg cb, decide_eq_false (by decide), if_pos b2i_f]
      exact ⟨σ1, τ2, rfl, rfl, P2, J2, Q.2.2.1, fr_trans (fr_sub Q.2.2.2.1 (by decide)) (fr_sub g2 (by decide)), fun z => absurd z cb⟩
theorem P_head {σ τ : ga_S} {f : Int} {N : Nat} (hE : ENV σ τ f N) (hP : PR σ τ f N) (hJ : JR σ τ) (s : Int) (hb : σ fR_bad 0 0 = -1) (hk : σ fT_kinds 0 (σ fR_p 0 0) ≠ 3 ∧ σ fT_kinds 0 (σ fR_p 0 0) ≠ 8) (hr : σ fR_runs 0 0 = 0 ∧ τ fM_runs 0 0 = 0) {d : Nat} (hd : 4 ≤ d) : ∃ σ' τ', r_ruleShape_46 d σ s = r_ruleShape_139 d σ' ∧ c_m_rule1 (d + 1) τ s = m_rule1_83 d τ' ∧ PR σ' τ' f N ∧ JR σ' τ' ∧ fr hdC σ σ' ∧ fr hdM τ τ' ∧ σ' fR_sort 0 0 = s ∧ τ' fM_sort 0 0 = s ∧ (σ' fR_bad 0 0 = -1 → hdR σ' τ' f s ∧ OR σ') := by
  have hf := hE.1
  have hN := hE.2.1
  have ok := PR_ok hP hb
  have lt := ENV_lt hE ok.2.2.1 rfl hk.1 hk.2
  rw [e_r_ruleShape_46, e_m_rule1, w32_ok (by omega), w32_ok (by omega)]
  obtain ⟨σ1, e1⟩ : ∃ x, x = ga_up (ga_up σ fR_sort 0 0 s) fR_p 0 0 (σ fR_p 0 0 + 1) := ⟨_, rfl⟩
  obtain ⟨τ1, e2⟩ : ∃ x, x = ga_up (ga_up τ fM_sort 0 0 s) fM_at 0 0 (τ fM_at 0 0 + 1) := ⟨_, rfl⟩
  rw [← e1, ← e2]
  have f1 : fr [fR_sort, fR_p] σ σ1 := by rw [e1]; exact fr_trans (fr_u (by decide)) (fr_u (by decide))
  have g1 : fr [fM_sort, fM_at] τ τ1 := by rw [e2]; exact fr_trans (fr_u (by decide)) (fr_u (by decide))
  have P1 : PR σ1 τ1 f N := by
    have := PR_step (σ := ga_up σ fR_sort 0 0 s) (τ := ga_up τ fM_sort 0 0 s) (PR_c hP (by rw [up_F (by decide)]) (by rw [up_F (by decide)]) (by rw [up_F (by decide)]) (by rw [up_F (by decide)]) (by rw [up_F (by decide)])) (by rw [up_F (by decide)]; exact hb) (n := 1) (by omega) (by rw [up_F (by decide)]; omega)
    rw [up_F (F' := fR_p) (by decide), up_F (F' := fM_at) (by decide), ← e1, ← e2] at this
    exact this
  have E1 : ENV σ1 τ1 f N := ENV_c hE (f1 _ (by decide)) (g1 _ (by decide))
  have J1 : JR σ1 τ1 := JR_mv hJ (by rw [f1 _ (by decide)]) (by rw [g1 _ (by decide)]) (f1 _ (by decide)) (fun _ => ⟨hb, Or.inr (by rw [e1, up_eq]; omega)⟩)
  have s1 : σ1 fR_sort 0 0 = s := by rw [e1, up_F (by decide), up_eq]
  have s2 : τ1 fM_sort 0 0 = s := by rw [e2, up_F (by decide), up_eq]
  have r1 : σ1 fR_runs 0 0 = 0 ∧ τ1 fM_runs 0 0 = 0 := by rw [f1 _ (by decide), g1 _ (by decide)]; exact hr
  have go : ∃ σ2 τ2, (if s = 5 then (c_r_take d σ1 16).bind fun q1 => r_ruleShape_75 d q1.2 else r_ruleShape_75 d σ1) = r_ruleShape_75 d σ2 ∧ (if s = 5 then (c_m_take d τ1 107).bind fun q1 => m_rule1_26 d q1.2 s else m_rule1_26 d τ1 s) = m_rule1_26 d τ2 s ∧ SQ σ1 σ2 τ1 τ2 f N ∧ fr pcL σ1 σ2 ∧ fr pmL τ1 τ2 := by
    by_cases c5 : s = 5
    · obtain ⟨v, σ2, τ2, c1, m1, Q, f2, g2, ok⟩ := S_take E1 P1 J1 (d := d) (by omega) (c := 16) (m := 107) (by decide) (by decide) (by decide) (by decide)
      rw [if_pos c5, if_pos c5, c1, m1]
      simp only [Option.bind_some]
      exact ⟨σ2, τ2, rfl, rfl, Q, f2, g2⟩
    · rw [if_neg c5, if_neg c5]
      exact ⟨σ1, τ1, rfl, rfl, SQ_refl P1 J1, fr_refl _ _, fr_refl _ _⟩
  obtain ⟨σ2, τ2, c2, m2, Q, f2, g2⟩ := go
  rw [c2, m2]
  obtain ⟨σ3, τ3, c3, m3, P3, J3, f3, g3, H⟩ := P_h75 (SQ_E Q E1) Q.1 Q.2.1 (s := s) (by rw [f2 _ (by decide)]; exact s1) (by rw [f2 _ (by decide), g2 _ (by decide)]; exact r1) (d := d) hd
  refine ⟨σ3, τ3, c3, m3, P3, J3, fr_trans (fr_sub f1 (by decide)) (fr_trans (fr_sub f2 (by decide)) (fr_sub f3 (by decide))), fr_trans (fr_sub g1 (by decide)) (fr_trans (fr_sub g2 (by decide)) (fr_sub g3 (by decide))), ?_, ?_, H⟩
  · rw [f3 _ (by decide), f2 _ (by decide)]; exact s1
  · rw [g3 _ (by decide), g2 _ (by decide)]; exact s2
def teS (σ τ : ga_S) (f : Int) (N : Nat) : Prop := 0 ≤ σ fR_tests 0 0 ∧ τ fM_tShown 0 0 = σ fR_tests 0 0 ∧ ∀ i, 0 ≤ i → i < σ fR_tests 0 0 → teR (σ fT_kinds 0) (σ fR_runs 0 0) τ f N (σ fR_testFrom 0 i) (σ fR_testTo 0 i) 0 i
def phR (σ τ : ga_S) (f : Int) (N : Nat) : Prop := 0 < σ fR_phrases 0 0 ∧ τ fM_pCount 0 0 = σ fR_phrases 0 0 ∧ ∀ i, 0 ≤ i → i < σ fR_phrases 0 0 → peR (σ fT_kinds 0) (σ fR_runs 0 0) τ f N (σ fR_phraseFrom 0 i) (σ fR_phraseTo 0 i) i (σ fR_tests 0 0 + i)
/-- tests and phrases stand behind the head -/
def ruO (σ : ga_S) : Prop := ∀ i, 0 ≤ i → i < σ fR_runs 0 0 → (∀ k, 0 ≤ k → k < σ fR_tests 0 0 → σ fR_runTo 0 i ≤ σ fR_testFrom 0 k) ∧ (∀ k, 0 ≤ k → k < σ fR_phrases 0 0 → σ fR_runTo 0 i ≤ σ fR_phraseFrom 0 k)
def ruR (σ τ : ga_S) (f : Int) (N : Nat) (s : Int) : Prop := hdR σ τ f s ∧ teS σ τ f N ∧ phR σ τ f N ∧ ruO σ ∧ oC σ
def ruC : List Nat := fR_sort :: fR_tests :: fR_testFrom :: fR_testTo :: psC
def ruM : List Nat := fM_sort :: fM_actingRun :: fM_actingOther :: fM_tShown :: phM
theorem P_rule {σ τ : ga_S} {f : Int} {N : Nat} {pl : Int → Int} (hE : ENV σ τ f N) (hP : PR σ τ f N) (hJ : JR σ τ) (hL : LEN pl (σ fT_kinds 0) N) (s : Int) (hb : σ fR_bad 0 0 = -1) (hk : σ fT_kinds 0 (σ fR_p 0 0) ≠ 3 ∧ σ fT_kinds 0 (σ fR_p 0 0) ≠ 8) (hr : σ fR_runs 0 0 = 0 ∧ τ fM_runs 0 0 = 0) (ht : σ fR_tests 0 0 = 0 ∧ τ fM_tCount 0 0 = 0 ∧ τ fM_tShown 0 0 = 0) (hp : σ fR_phrases 0 0 = 0 ∧ τ fM_pCount 0 0 = 0) {d : Nat} (hd : 10 ≤ d) : ∃ σ' τ', r_ruleShape_46 d σ s = some (0, σ') ∧ c_m_rule1 (d + 1) τ s = some (0, τ') ∧ PE σ' τ' f N ∧ fr ruC σ σ' ∧ fr ruM τ τ' ∧ σ' fR_sort 0 0 = s ∧ τ' fM_sort 0 0 = s ∧ (σ' fR_bad 0 0 = -1 → τ' fM_isBad 0 0 = 0 → 2 * τ' fM_runs 0 0 ≤ 5001 ∧ ruR σ' τ' f N s) := by
  obtain ⟨σ1, τ1, c1, m1, P1, J1, f1, g1, s1, s2, H⟩ := P_head hE hP hJ s hb hk hr (d := d) (by omega)
  have E1 : ENV σ1 τ1 f N := ENV_c hE (f1 _ (by decide)) (g1 _ (by decide))
  have K1 : σ1 fT_kinds = σ fT_kinds := f1 _ (by decide)
  obtain ⟨σ2, τ2, c2, m2, P2, J2, f2, g2, b2, X2⟩ := P_when (pl := pl) E1 P1 J1 (by rw [K1]; exact hL) (by rw [f1 _ (by decide), g1 _ (by decide), g1 _ (by decide)]; exact ht) (d := d) hd
  have E2 : ENV σ2 τ2 f N := ENV_c E1 (f2 _ (by decide)) (g2 _ (by decide))
  have K2 : σ2 fT_kinds = σ fT_kinds := (f2 _ (by decide)).trans K1
  obtain ⟨σ3, τ3, c3, m3, P3, f3, g3, X3⟩ := P_phrs (pl := pl) E2 P2 J2 (by rw [K2]; exact hL) b2 (by rw [f2 _ (by decide), g2 _ (by decide), f1 _ (by decide), g1 _ (by decide)]; exact hp) (fun z => (X2 z).2.2.2.2.1) (d := d) hd
  refine ⟨σ3, τ3, by rw [c1, c2, c3], by rw [m1, m2, m3], P3, fr_trans (fr_sub f1 (by decide)) (fr_trans (fr_sub f2 (by decide)) (fr_sub f3 (by decide))), fr_trans (fr_sub g1 (by decide)) (fr_trans (fr_sub g2 (by decide)) (fr_sub g3 (by decide))), ?_, ?_, fun z1 z2 => ?_⟩
  · rw [f3 _ (by decide), f2 _ (by decide)]; exact s1
  · rw [g3 _ (by decide), g2 _ (by decide)]; exact s2
  · obtain ⟨A0, A1, A2, A3, A4, A5, A6, A7, A8⟩ := X3 z1 z2
    obtain ⟨B1, B2, B3, B4, B5, B6, B7, B0, B8⟩ := X2 A1
    have h1 := (H B1).1
    have O1 := (H B1).2
    have RC := rKeepC_trans B3 (by rw [B2]; exact Int.le_refl _) A3
    have R3 : σ3 fR_runs 0 0 = σ1 fR_runs 0 0 := A2.trans B2
    have K3 : σ3 fT_kinds = σ2 fT_kinds := f3 _ (by decide)
    have K21 : σ2 fT_kinds = σ1 fT_kinds := f2 _ (by decide)
    have T3 : σ3 fR_tests 0 0 = σ2 fR_tests 0 0 := by rw [f3 _ (by decide)]
    refine ⟨A0, ?_, ⟨?_, ?_, fun i h1 h2 => ?_⟩, ⟨A6, A7.symm, fun i h1 h2 => ?_⟩, fun i h1 h2 => ⟨fun k k1 k2 => ?_, fun k k1 k2 => ?_⟩, fun i h1 h2 => ?_⟩
    · refine hdR_keep h1 (A2.trans B2) (rKeepC_trans B3 (by rw [B2]; exact Int.le_refl _) A3) (rKeep_trans B4 A4) (K3.trans K21) ?_ ?_
      · rw [g3 _ (by decide), g2 _ (by decide)]
      · rw [g3 _ (by decide), g2 _ (by decide)]
    · rw [T3, B6]; exact b2.1
    · rw [T3, B6, g3 _ (by decide)]; exact B7
    · rw [T3] at h2
      have := (B8 i h1 h2).1
      rw [K3, K21, A2, B2, f3 fR_testFrom (by decide), f3 fR_testTo (by decide)]
      exact teR_keep this (A5 i (by omega)) A4
    · have := (A8 i h1 h2).1
      rw [K3, A2, T3, B6]
      exact this
    · rw [R3] at h2
      rw [T3] at k2
      have a := O1.2 i h1 h2
      have b := (B8 k k1 k2).2
      rw [(RC i h2).2, f3 fR_testFrom (by decide)]
      omega
    · rw [R3] at h2
      have a := O1.2 i h1 h2
      have b := (A8 k k1 k2).2
      rw [(RC i h2).2]
      omega
    · rw [R3] at h2
      rw [(RC i (by omega)).2, (RC (i + 1) h2).1]
      exact O1.1 i h1 h2

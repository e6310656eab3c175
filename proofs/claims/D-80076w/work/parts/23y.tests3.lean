/-! tests, whole -/
theorem P_tests {σ τ : ga_S} {f : Int} {N : Nat} {pl : Int → Int} {c : Int} (hc : 0 ≤ c) (hE : ENV σ τ f N) (hP : PR σ τ f N) (hJ : JR σ τ) (h0 : 0 ≤ τ fM_tCount 0 0 ∧ τ fM_tCount 0 0 ≤ 1666) (hL : LEN pl (σ fT_kinds 0) N) (hg : σ fR_bad 0 0 = -1 → 3 * τ fM_tCount 0 0 + c ≤ pl (σ fR_p 0 0) ∧ σ fR_tests 0 0 = τ fM_tCount 0 0) {d : Nat} (hd : 9 ≤ d) (e : Int) : ∃ σ' τ', c_r_testsAhead d σ e = some (0, σ') ∧ c_m_tests d τ = some (0, τ') ∧ teX σ σ' τ τ' f N pl c := by
  obtain ⟨d, rfl⟩ : ∃ e, d = e + 1 := ⟨d - 1, by omega⟩
  by_cases cb : σ fR_bad 0 0 = -1
  · obtain ⟨g1, g2⟩ := hg cb
    obtain ⟨σ', τ', c1, m1, X⟩ := te_loop hc (d := d) (by omega) (N + 1 - σ fR_p 0 0).toNat σ τ hE hP hJ cb (by have := PR_ok hP cb; omega) hL g1 g2 h0.1
    refine ⟨σ', τ', ?_, ?_, X⟩
    · rw [e_r_testsAhead, if_pos cb, e_r_testsAhead_13, e_r_testsAhead_14, if_neg (by decide)]; exact c1
    · rw [e_m_tests]; exact m1
  · have bM : τ fM_isBad 0 0 = 1 := by
      rcases hP.2 with g | g
      · exact absurd g.1 cb
      · exact g.2.2.1
    have hf := hE.1
    have hN := hE.2.1
    have hp := hP.1
    obtain ⟨τ1, m1, Q, j1⟩ := mb_test hE (a := τ fM_at 0 0 - f) (by omega) (by omega) bM (by omega) ⟨h0.1, by omega⟩ (d := d) (by omega) 0
    have b1 : τ1 fM_isBad 0 0 = 1 := by rw [Q.1 _ (by decide)]; exact bM
    obtain ⟨τ3, g3⟩ : ∃ x, x = ga_up τ1 fM_tShown 0 0 (τ1 fM_tCount 0 0) := ⟨_, rfl⟩
    have m3 : fr [fM_tShown] τ1 τ3 := by rw [g3]; exact fr_u (by decide)
    have q3 : fr (fM_tShown :: mbL) τ τ3 := fr_trans (fr_sub Q.1 (by decide)) (fr_sub m3 (by decide))
    refine ⟨σ, τ3, ?_, ?_, PR_c hP rfl rfl (q3 _ (by decide)) (q3 _ (by decide)) (q3 _ (by decide)), JR_mv hJ rfl (by rw [q3 _ (by decide)]) rfl (fun z => ⟨z, Or.inl rfl⟩), fr_refl _ _, fr_sub q3 (by decide), rfl, rKeepC_eq rfl rfl, rKeep_eq (q3 _ (by decide)) (q3 _ (by decide)) (q3 _ (by decide)), ?_, ?_, fun _ _ => ⟨rfl, rfl⟩, fun z => absurd z cb⟩
    · rw [e_r_testsAhead, if_neg cb, e_r_testsAhead_13, e_r_testsAhead_14, if_pos rfl]
    · rw [e_m_tests, m1]
      simp only [Option.bind_some]
      rw [e_m_tests_5, mb_isNext (by omega) b1]
      simp only [Option.bind_some]
      rw [if_pos trivial, ← g3]
    · intro i hi F hF
      rw [m3 F (mem_no (L := tA) (by decide) F hF)]
      exact Q.2 F hF i (by omega)
    · rw [m3 _ (by decide), j1]; omega
/-! phrases, whole -/
def phRow (τ τ' : ga_S) (i : Int) : Prop := ∀ F, F ∈ [fM_pFirst, fM_pTest, fM_pWhat] → τ' F 0 i = τ F 0 i
theorem pRw_row {σ τ τ' : ga_S} {f a b i j : Int} (h : pRw σ τ f a b i j) (hi : phRow τ τ' i) (hr : rowE τ τ' j) (hk : rKeep τ τ') : pRw σ τ' f a b i j := by
  unfold pRw at h ⊢
  rw [hi fM_pTest (by decide), hi fM_pFirst (by decide), hi fM_pWhat (by decide), hr fM_tWhat (by decide), hr fM_tThing (by decide), hr fM_tThingRun (by decide), hr fM_tRun (by decide), hr fM_tOther (by decide), hr fM_tOtherRun (by decide), hr fM_tNot (by decide)]
  obtain ⟨h1, h2, h⟩ := h
  refine ⟨h1, h2, ?_⟩
  rcases h with h | ⟨g1, g2, g3⟩ | ⟨g1, g2, g3, g4, g5⟩ | ⟨g1, g2, g3, g4, g5⟩ | h | ⟨g1, g2, g3, g0, g4⟩
  · exact Or.inl h
  · exact Or.inr (Or.inl ⟨g1, g2, tRw_keep g3 hr hk⟩)
  · exact Or.inr (Or.inr (Or.inl ⟨g1, g2, thE_keep g3 hk rfl, thE_keep g4 hk rfl, g5⟩))
  · exact Or.inr (Or.inr (Or.inr (Or.inl ⟨g1, rnR_keep g2 hk rfl, thE_keep g3 hk rfl, g4, g5⟩)))
  · exact Or.inr (Or.inr (Or.inr (Or.inr (Or.inl h))))
  · refine Or.inr (Or.inr (Or.inr (Or.inr (Or.inr ⟨g1, g2, rnR_keep g3 hk rfl, g0, ?_⟩))))
    rcases g4 with g4 | ⟨g4, g5, g6, g7⟩
    · exact Or.inl g4
    · exact Or.inr ⟨g4, g5, thE_keep g6 hk rfl, g7⟩
/-- the test of a phrase with now -/
theorem ph_now_te {σ τ : ga_S} {f : Int} {N : Nat} {a b : Int} (H : phH σ τ f N a b) {d : Nat} (hd : 9 ≤ d) (hc : σ fT_kinds 0 a = 53) {τ' : ga_S} (hm : c_m_phrase d τ = some (0, τ')) (hg : τ' fM_isBad 0 0 = 0) : teR (σ fT_kinds 0) (σ fR_runs 0 0) τ' f N (a + 1) b 1 (τ fM_tCount 0 0) := by
  obtain ⟨d, rfl⟩ : ∃ e, d = e + 1 := ⟨d - 1, by omega⟩
  obtain ⟨B1, B2, B3, B4, B5, B6⟩ := ph_begin H (d := d) (by omega)
  obtain ⟨K1, K2, K3, K4, K5, K6, K7⟩ := ph_key H hc (by omega) 1
  obtain ⟨hE, hb, ha, hT, hbN, hτ, hJ, hj, hi⟩ := H
  have hf := hE.1
  have hN := hE.2.1
  have hN5 := hE.2.2.1
  have h0 := ph0_fr τ
  have hab := K4.1
  obtain ⟨τ1, eτ1⟩ : ∃ x, x = ga_up (ga_up (ph0 τ) fM_at 0 0 (f + a + 1)) fM_pWhat 0 (τ fM_pCount 0 0) 1 := ⟨_, rfl⟩
  rw [← eτ1] at K1 K2 K3 K5 K6 K7
  have j1 : τ1 fM_tCount 0 0 = τ fM_tCount 0 0 := by rw [K5 _ (by decide), B6]
  have r1 : τ1 fM_runs 0 0 = τ fM_runs 0 0 := by rw [K5 _ (by decide), h0 _ (by decide)]
  have E1 : ENV σ τ1 f N := ENV_c hE rfl ((K5 _ (by decide)).trans (h0 _ (by decide)))
  have t1 : τ1 fM_isBad 0 0 = 0 ∧ τ1 fM_at 0 0 = f + (a + 1) := ⟨by rw [K5 _ (by decide), h0 _ (by decide)]; exact hτ.1, by rw [eτ1, up_F (by decide), up_eq]; omega⟩
  have J1 : 0 ≤ σ fR_runs 0 0 ∧ σ fR_runs 0 0 ≤ τ1 fM_runs 0 0 ∧ 2 * τ1 fM_runs 0 0 ≤ a + 1 + 1 ∧ (σ fT_kinds 0 (a + 1) = 0 → 2 * τ1 fM_runs 0 0 ≤ a + 1) := by
    rw [r1]
    exact ⟨hJ.1, hJ.2.1, by omega, fun _ => by omega⟩
  obtain ⟨σ2, τ2, e1, e2, X, _⟩ := P_test E1 hb (a := a + 1) (b := b) (now := 1) (by omega) K4 hbN (Or.inr rfl) t1 J1 (by rw [j1]; exact hj) (d := d) (by omega)
  have hm2 : c_m_phrase (d + 1) τ = m_phrase_409 d τ2 := by
    rw [e_m_phrase, ck_ok _ hi, ck_ok _ hi, ck_ok _ hj]
    show ((c_m_look d (ph0 τ)).bind _) = _
    rw [B2]
    simp only [Option.bind_some]
    rw [hc, if_neg (by decide), if_pos (by decide), ck_ok _ hi, B5, w32_ok (x := f + a + 1) (by omega), ← eτ1, e2]
    rfl
  have x4 := X.2.2.2.1
  have k2 : σ2 fT_kinds = σ fT_kinds := X.2.2.1 _ (by decide)
  have ip : τ2 fM_pCount 0 0 = τ fM_pCount 0 0 := by rw [x4 _ (by decide), K5 _ (by decide), h0 _ (by decide)]
  obtain ⟨σ', τ'', g1, g2, g3, g4, g5, g6, _⟩ := T_pend (ENV_c E1 k2 (x4 _ (by decide))) X.1 X.2.1 (d := d) (by omega) (n := 0) (b := b) (Int.le_refl _) (by rw [X.2.2.2.2.1]; exact hJ.1) (fun z => by
    rw [(X.2.2.2.2.2.2.2.2.2 z).1, k2]
    exact ⟨Int.le_refl _, hT.2.1, fun q h1 h2 => by omega⟩) hbN (by rw [ip]; exact hi)
  rw [hm2, g2] at hm
  have et : τ'' = τ' := by injection hm with z; injection z
  subst et
  have b2 : τ2 fM_isBad 0 0 = 0 := by
    refine Classical.byContradiction fun z => ?_
    rw [e_m_phrase_409, if_neg z] at g2
    have e : ga_up τ2 fM_pCount 0 0 (w32 ((τ2 fM_pCount 0 0) + 1)) = τ'' := by injection g2 with z; injection z
    rw [← e, up_F (by decide)] at hg
    exact z hg
  have te := teR_of (σ := σ) (τ := τ1) E1 (a := a + 1) (b := b) (now := 1) (by omega) K4 hbN (Or.inr rfl) t1 (R := σ fR_runs 0 0) J1 (by rw [j1]; exact hj) (d := d) (by omega) e2 b2
  rw [j1] at te
  exact teR_keep te (fun F hF => by rw [g6 F (mem_no (L := tA) (by decide) F hF)]) (rKeep_eq (g6 _ (by decide)) (g6 _ (by decide)) (g6 _ (by decide)))
/-- what is kept of a phrase: it may be read again -/
def peR (K : Int → Int) (R : Int) (τ : ga_S) (f : Int) (N : Nat) (a b i j : Int) : Prop := (0 ≤ a ∧ toT K 1 a b ∧ b ≤ N ∧ (0 ≤ j ∧ j < 1700) ∧ 0 ≤ i ∧ i < 1700) ∧ (∀ σ2 : ga_S, σ2 fT_kinds 0 = K → σ2 fR_bad 0 0 = -1 → σ2 fR_runs 0 0 = R → ∀ d, 9 ≤ d → ∃ σ3, c_r_phraseShape d σ2 a b = some (0, σ3) ∧ fr tsC σ2 σ3 ∧ σ3 fR_bad 0 0 = -1 ∧ σ3 fR_runs 0 0 = R ∧ rKeepC σ2 σ3 ∧ pRw σ3 τ f a b i j) ∧ (K a = 53 → teR K R τ f N (a + 1) b 1 j)
theorem peR_keep {K : Int → Int} {R : Int} {τ τ' : ga_S} {f : Int} {N : Nat} {a b i j : Int} (h : peR K R τ f N a b i j) (hi : phRow τ τ' i) (hr : rowE τ τ' j) (hk : rKeep τ τ') : peR K R τ' f N a b i j := by
  refine ⟨h.1, fun σ2 h1 h2 h3 d hd => ?_, fun z => teR_keep (h.2.2 z) hr hk⟩
  obtain ⟨σ3, e1, e2, e3, e4, e5, e6⟩ := h.2.1 σ2 h1 h2 h3 d hd
  exact ⟨σ3, e1, e2, e3, e4, e5, pRw_row e6 hi hr hk⟩
theorem PE_ok {σ τ : ga_S} {f : Int} {N : Nat} (h : PE σ τ f N) (hb : τ fM_isBad 0 0 = 0) : PR σ τ f N := by
  rcases h with h | h
  · exact h
  · omega
theorem peR_of {σ τ : ga_S} {f : Int} {N : Nat} {a b : Int} (H : phH σ τ f N a b) {d : Nat} (hd : 9 ≤ d) {τ' : ga_S} (hm : c_m_phrase d τ = some (0, τ')) (hg : τ' fM_isBad 0 0 = 0) : peR (σ fT_kinds 0) (σ fR_runs 0 0) τ' f N a b (τ fM_pCount 0 0) (τ fM_tCount 0 0) := by
  obtain ⟨hE, hb, ha, hT, hbN, hτ, hJ, hj, hp⟩ := id H
  refine ⟨⟨ha, hT, hbN, hj, hp⟩, fun σ2 h1 h2 h3 e he => ?_, fun z => ph_now_te H hd z hm hg⟩
  have E2 := ENV_0 hE h1
  obtain ⟨σ', τ'', c1, m1, X⟩ := P_phrase (σ := σ2) (τ := τ) (f := f) (N := N) (a := a) (b := b) ⟨E2, h2, ha, by rw [h1]; exact hT, hbN, hτ, by rw [h3, h1]; exact hJ, hj, hp⟩ (d := e) he
  have e1 := (am_mono (e := d + e) m1 (by omega)).symm.trans (am_mono (e := d + e) hm (by omega))
  have e2 : τ'' = τ' := by injection e1 with z; injection z
  subst e2
  have hb := PR_good (PE_ok X.1 hg) hg
  have X2 := X.2.2.2.2.2.2.2.2.2.2.2.2 hb
  exact ⟨σ', c1, X.2.2.1, hb, X.2.2.2.2.1.trans h3, X.2.2.2.2.2.1, X2.2.2⟩
/-- the component looks for a phrase's end -/
theorem s_r_rs_193 {σ : ga_S} {d : Nat} (hd : 1 ≤ d) (a : Int) {b : Int} (hb : b ≤ 5001) (hE : endT 1 (σ fT_kinds 0 b)) : ∀ (n : Nat) (k : Int), 0 ≤ k → k + n = b → (∀ q, k ≤ q → q < b → ¬ endT 1 (σ fT_kinds 0 q)) → r_ruleShape_193 d σ a k = r_ruleShape_235 d σ a b := by
  intro n
  induction n with
  | zero =>
    intro k h0 hk _
    have : k = b := by omega
    subst this
    have is := fun c => s_r_is (σ := σ) hd (k := k) ⟨h0, by omega⟩ c
    rw [e_r_ruleShape_193, is]
    simp only [Option.bind_some]
    by_cases c1 : σ fT_kinds 0 k = 5
    · rw [decide_eq_true c1, if_neg b2i_n]
    · rw [decide_eq_false c1, if_pos b2i_f, is]
      simp only [Option.bind_some]
      by_cases c2 : σ fT_kinds 0 k = 3
      · rw [decide_eq_true c2, if_neg b2i_n]
      · rw [decide_eq_false c2, if_pos b2i_f, is]
        simp only [Option.bind_some]
        have c5 : σ fT_kinds 0 k = 8 := by unfold endT at hE; omega
        rw [decide_eq_true c5, if_neg b2i_n]
  | succ n ih =>
    intro k h0 hk hq
    have is := fun c => s_r_is (σ := σ) hd (k := k) ⟨h0, by omega⟩ c
    have no := hq k (Int.le_refl _) (by omega)
    unfold endT at no
    rw [e_r_ruleShape_193, is]
    simp only [Option.bind_some]
    rw [decide_eq_false (p := σ fT_kinds 0 k = 5) (by omega), if_pos b2i_f, is]
    simp only [Option.bind_some]
    rw [decide_eq_false (p := σ fT_kinds 0 k = 3) (by omega), if_pos b2i_f, is]
    simp only [Option.bind_some]
    rw [decide_eq_false (p := σ fT_kinds 0 k = 8) (by omega), if_pos b2i_f, w32_ok (by omega)]
    exact ih (k + 1) (by omega) (by omega) (fun q h1 h2 => hq q (by omega) h2)

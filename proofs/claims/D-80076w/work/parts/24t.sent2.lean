/-! a sentence, whole -/
theorem osA_se {σ τ : ga_S} {f : Int} {N : Nat} {x y : Option ga_R} (hE : ENV σ τ f N) (h : osA σ τ f N x y) {d : Nat} (hd : 3 ≤ d) : seA σ τ f N (x.bind fun q => r_shape_264 d q.2) (y.bind fun q => m_sentence_350 d q.2) := by
  obtain ⟨σ1, τ1, h1, h2, h3, h4, h5, h6⟩ := h
  rw [h1, h2]
  simp only [Option.bind_some]
  refine seA_fin hE h3 (fr_sub h4 (by decide)) (fr_sub h5 (by decide)) (fun a b => ?_) hd
  have B := h6 a b
  refine ⟨B.1, Or.inr (Or.inr (Or.inr ⟨?_, B⟩))⟩
  obtain ⟨_, c⟩ := B
  rcases c with c | c | c | c | c <;> omega
theorem se_rule {σ τ : ga_S} {f : Int} {N : Nat} {pl : Int → Int} (H : stH σ τ f N) (hL : LEN pl (σ fT_kinds 0) N) (ht : σ fR_tests 0 0 = 0 ∧ τ fM_tCount 0 0 = 0 ∧ τ fM_tShown 0 0 = 0) (hp : σ fR_phrases 0 0 = 0 ∧ τ fM_pCount 0 0 = 0) (hk : σ fT_kinds 0 0 ≠ 3 ∧ σ fT_kinds 0 0 ≠ 8) {s : Int} (hs : 3 ≤ s ∧ s ≤ 6) {d : Nat} (hd : 10 ≤ d) : seA σ τ f N ((r_ruleShape_46 d σ s).bind fun q => r_shape_264 (d + 1) q.2) (m_sentence_204 (d + 1) τ s) := by
  obtain ⟨hE, hP, hJ, hb, hp0, hr, _⟩ := H
  obtain ⟨σ1, τ1, c1, m1, P1, f1, g1, s1, s2, X⟩ := P_rule hE hP hJ hL s hb (by rw [hp0]; exact hk) ⟨hr.1, hr.2.1⟩ ht hp hd
  rw [c1, e_m_sentence_204, m1]
  simp only [Option.bind_some]
  refine seA_fin hE (PG_E P1 (fun a b => (X a b).1)) (fr_sub f1 (by decide)) (fr_sub g1 (by decide)) (fun a b => ?_) (by omega)
  exact ⟨by rw [s1, s2], Or.inr (Or.inr (Or.inl ⟨by omega, by rw [s1]; exact (X a b).2⟩))⟩
/-- the stores where a sentence begins -/
noncomputable def se0 (σ : ga_S) : ga_S := ga_up (ga_up (ga_up (ga_up (ga_up (ga_up (ga_up (ga_up (ga_up (ga_up σ fR_p 0 0 0) fR_bad 0 0 (-1)) fR_names 0 0 0) fR_runs 0 0 0) fR_tests 0 0 0) fR_phrases 0 0 0) fR_not 0 0 0) fR_usually 0 0 0) fR_isValue 0 0 0) fR_placeSort 0 0 0
noncomputable def te0 (τ : ga_S) : ga_S := ga_up (ga_up (ga_up (ga_up (ga_up (ga_up (ga_up τ fM_isBad 0 0 0) fM_runs 0 0 0) fM_tCount 0 0 0) fM_tShown 0 0 0) fM_pCount 0 0 0) fM_isNot 0 0 0) fM_isUsually 0 0 0
theorem se0_fr (σ : ga_S) : fr [fR_p, fR_bad, fR_names, fR_runs, fR_tests, fR_phrases, fR_not, fR_usually, fR_isValue, fR_placeSort] σ (se0 σ) := by
  unfold se0
  exact fr_trans (fr_trans (fr_trans (fr_trans (fr_trans (fr_trans (fr_trans (fr_trans (fr_trans (fr_u (by decide)) (fr_u (by decide))) (fr_u (by decide))) (fr_u (by decide))) (fr_u (by decide))) (fr_u (by decide))) (fr_u (by decide))) (fr_u (by decide))) (fr_u (by decide))) (fr_u (by decide))
theorem te0_fr (τ : ga_S) : fr [fM_isBad, fM_runs, fM_tCount, fM_tShown, fM_pCount, fM_isNot, fM_isUsually] τ (te0 τ) := by
  unfold te0
  exact fr_trans (fr_trans (fr_trans (fr_trans (fr_trans (fr_trans (fr_u (by decide)) (fr_u (by decide))) (fr_u (by decide))) (fr_u (by decide))) (fr_u (by decide))) (fr_u (by decide))) (fr_u (by decide))
theorem se0_v (σ : ga_S) : (se0 σ) fR_p 0 0 = 0 ∧ (se0 σ) fR_bad 0 0 = -1 ∧ (se0 σ) fR_names 0 0 = 0 ∧ (se0 σ) fR_runs 0 0 = 0 ∧ (se0 σ) fR_tests 0 0 = 0 ∧ (se0 σ) fR_phrases 0 0 = 0 ∧ (se0 σ) fR_not 0 0 = 0 ∧ (se0 σ) fR_usually 0 0 = 0 ∧ (se0 σ) fR_isValue 0 0 = 0 ∧ (se0 σ) fR_placeSort 0 0 = 0 := by
  unfold se0
  refine ⟨?_, ?_, ?_, ?_, ?_, ?_, ?_, ?_, ?_, ?_⟩
  · rw [up_F (by decide), up_F (by decide), up_F (by decide), up_F (by decide), up_F (by decide), up_F (by decide), up_F (by decide), up_F (by decide), up_F (by decide), up_eq]
  · rw [up_F (by decide), up_F (by decide), up_F (by decide), up_F (by decide), up_F (by decide), up_F (by decide), up_F (by decide), up_F (by decide), up_eq]
  · rw [up_F (by decide), up_F (by decide), up_F (by decide), up_F (by decide), up_F (by decide), up_F (by decide), up_F (by decide), up_eq]
  · rw [up_F (by decide), up_F (by decide), up_F (by decide), up_F (by decide), up_F (by decide), up_F (by decide), up_eq]
  · rw [up_F (by decide), up_F (by decide), up_F (by decide), up_F (by decide), up_F (by decide), up_eq]
  · rw [up_F (by decide), up_F (by decide), up_F (by decide), up_F (by decide), up_eq]
  · rw [up_F (by decide), up_F (by decide), up_F (by decide), up_eq]
  · rw [up_F (by decide), up_F (by decide), up_eq]
  · rw [up_F (by decide), up_eq]
  · rw [up_eq]
theorem te0_v (τ : ga_S) : (te0 τ) fM_isBad 0 0 = 0 ∧ (te0 τ) fM_runs 0 0 = 0 ∧ (te0 τ) fM_tCount 0 0 = 0 ∧ (te0 τ) fM_tShown 0 0 = 0 ∧ (te0 τ) fM_pCount 0 0 = 0 ∧ (te0 τ) fM_isNot 0 0 = 0 ∧ (te0 τ) fM_isUsually 0 0 = 0 := by
  unfold te0
  refine ⟨?_, ?_, ?_, ?_, ?_, ?_, ?_⟩
  · rw [up_F (by decide), up_F (by decide), up_F (by decide), up_F (by decide), up_F (by decide), up_F (by decide), up_eq]
  · rw [up_F (by decide), up_F (by decide), up_F (by decide), up_F (by decide), up_F (by decide), up_eq]
  · rw [up_F (by decide), up_F (by decide), up_F (by decide), up_F (by decide), up_eq]
  · rw [up_F (by decide), up_F (by decide), up_F (by decide), up_eq]
  · rw [up_F (by decide), up_F (by decide), up_eq]
  · rw [up_F (by decide), up_eq]
  · rw [up_eq]
theorem P_sentence {σ τ : ga_S} {f : Int} {N : Nat} {pl : Int → Int} (hE : ENV σ τ f N) (hL : LEN pl (σ fT_kinds 0) N) (h2 : σ fT_kinds 0 0 ≠ 2) (ha : τ fM_at 0 0 = f) {d : Nat} (hd : 13 ≤ d) : seA σ τ f N (c_r_shape d σ) (c_m_sentence d τ) := by
  obtain ⟨d, rfl⟩ : ∃ e, d = e + 1 + 1 := ⟨d - 2, by omega⟩
  have hf := hE.1
  have hN := hE.2.1
  have hN5 := hE.2.2.1
  have K0 := hE.2.2.2.1 0 (by omega) (by omega)
  rw [Int.add_zero] at K0
  have fc := se0_fr σ
  have fm := te0_fr τ
  have vc := se0_v σ
  have vm := te0_v τ
  have kk : (se0 σ) fT_kinds = σ fT_kinds := fc _ (by decide)
  have E0 : ENV (se0 σ) (te0 τ) f N := ENV_c hE kk (fm _ (by decide))
  have a0 : (te0 τ) fM_at 0 0 = f := by rw [fm _ (by decide)]; exact ha
  have P0 : PR (se0 σ) (te0 τ) f N := ⟨⟨by omega, by omega, by omega, by omega⟩, Or.inl ⟨vc.2.1, vm.1, by omega, by omega, by omega⟩⟩
  have J0 : JR (se0 σ) (te0 τ) := ⟨by omega, by omega, by omega, fun _ => ⟨by omega, fun _ => by omega⟩⟩
  have H0 : stH (se0 σ) (te0 τ) f N := ⟨E0, P0, J0, vc.2.1, vc.1, ⟨vc.2.2.2.1, vm.2.1, vc.2.2.1⟩, ⟨vc.2.2.2.2.2.2.1, vm.2.2.2.2.2.1, vc.2.2.2.2.2.2.2.1, vm.2.2.2.2.2.2⟩, vc.2.2.2.2.2.2.2.2.1, vc.2.2.2.2.2.2.2.2.2⟩
  have L0 : LEN pl ((se0 σ) fT_kinds 0) N := by rw [kk]; exact hL
  have up : ∀ {x y : Option ga_R}, seA (se0 σ) (te0 τ) f N x y → seA σ τ f N x y := by
    rintro x y ⟨v, σ', τ', h1, h2, h3, h4, h5⟩
    exact ⟨v, σ', τ', h1, h2, fr_trans (fr_sub fc (by decide)) h3, fr_trans (fr_sub fm (by decide)) h4, h5⟩
  have mk : ∀ c m : Int, m = cdM c → 0 ≤ c ∧ c < 64 → (τ fM_token 0 f = m ↔ σ fT_kinds 0 0 = c) := fun c m hm hc => by
    rw [hm, K0.2.2]; exact cdM_inj ⟨K0.1, K0.2.1⟩ hc
  have w1 : w32 (f + 1) = f + 1 := w32_ok (by omega)
  rw [e_r_shape, nn_ok _ K0.1, s_p_ord (by omega) _ _ K0.1, e_m_sentence, ha, ck_ok _ (by omega)]
  simp only [Option.bind_some]
  rw [show (ga_up (ga_up (ga_up (ga_up (ga_up (ga_up (ga_up (ga_up (ga_up (ga_up σ fR_p 0 0 0) fR_bad 0 0 (-1)) fR_names 0 0 0) fR_runs 0 0 0) fR_tests 0 0 0) fR_phrases 0 0 0) fR_not 0 0 0) fR_usually 0 0 0) fR_isValue 0 0 0) fR_placeSort 0 0 0) = se0 σ from rfl, show (ga_up (ga_up (ga_up (ga_up (ga_up (ga_up (ga_up τ fM_isBad 0 0 0) fM_runs 0 0 0) fM_tCount 0 0 0) fM_tShown 0 0 0) fM_pCount 0 0 0) fM_isNot 0 0 0) fM_isUsually 0 0 0) = te0 τ from rfl]
  rw [if_neg h2, if_neg (fun z => h2 ((mk 2 5 (by decide) (by decide)).mp z)), vc.1]
  have m42 := mk 42 133 (by decide) (by decide)
  have m44 := mk 44 135 (by decide) (by decide)
  have m47 := mk 47 138 (by decide) (by decide)
  have m49 := mk 49 140 (by decide) (by decide)
  have m48 := mk 48 139 (by decide) (by decide)
  have m50 := mk 50 141 (by decide) (by decide)
  have m11 := mk 11 102 (by decide) (by decide)
  have N1 : σ fT_kinds 0 0 ≠ 3 → σ fT_kinds 0 0 ≠ 8 → 1 ≤ (N : Int) := fun h3 h8 => by
    have := ENV_lt hE (k := 0) (by omega) rfl h3 h8
    omega
  by_cases c42 : σ fT_kinds 0 0 = 42
  · rw [if_pos c42, if_pos (m42.mpr c42)]
    exact up (se_1 H0 (N1 (by omega) (by omega)) (by omega))
  · rw [if_neg c42, if_neg (fun z => c42 (m42.mp z))]
    by_cases c44 : σ fT_kinds 0 0 = 44
    · rw [if_pos c44, if_pos (m44.mpr c44)]
      exact up (se_2 H0 L0 ⟨vc.2.2.2.2.1, vm.2.2.1⟩ (N1 (by omega) (by omega)) (by omega))
    · rw [if_neg c44, if_neg (fun z => c44 (m44.mp z))]
      have tt : (se0 σ) fR_tests 0 0 = 0 ∧ (te0 τ) fM_tCount 0 0 = 0 ∧ (te0 τ) fM_tShown 0 0 = 0 := ⟨vc.2.2.2.2.1, vm.2.2.1, vm.2.2.2.1⟩
      have pp : (se0 σ) fR_phrases 0 0 = 0 ∧ (te0 τ) fM_pCount 0 0 = 0 := ⟨vc.2.2.2.2.2.1, vm.2.2.2.2.1⟩
      have K00 : (se0 σ) fT_kinds 0 0 = σ fT_kinds 0 0 := by rw [kk]
      by_cases c47 : σ fT_kinds 0 0 = 47
      · have z := m47.mpr c47
        rw [if_pos c47, if_pos z, e_r_ruleShape, K00, if_pos c47, e_m_sentence_168, if_pos z]
        exact up (se_rule H0 L0 tt pp (by rw [K00]; omega) (by omega) (by omega))
      · rw [if_neg c47, if_neg (fun z => c47 (m47.mp z))]
        have z138 : ¬ τ fM_token 0 f = 138 := fun z => c47 (m47.mp z)
        by_cases c48 : σ fT_kinds 0 0 = 48
        · have z := m48.mpr c48
          have z140 : ¬ τ fM_token 0 f = 140 := fun z => by have := m49.mp z; omega
          rw [if_pos c48, if_neg z140, if_pos z, e_r_ruleShape, K00, if_neg c47, if_neg (by omega), if_pos c48, e_m_sentence_168, if_neg z138, if_neg z140, if_pos z]
          exact up (se_rule H0 L0 tt pp (by rw [K00]; omega) (by omega) (by omega))
        · rw [if_neg c48]
          by_cases c49 : σ fT_kinds 0 0 = 49
          · have z := m49.mpr c49
            rw [if_pos c49, if_pos z, e_r_ruleShape, K00, if_neg c47, if_pos c49, e_m_sentence_168, if_neg z138, if_pos z]
            exact up (se_rule H0 L0 tt pp (by rw [K00]; omega) (by omega) (by omega))
          · have z140 : ¬ τ fM_token 0 f = 140 := fun z => c49 (m49.mp z)
            have z139 : ¬ τ fM_token 0 f = 139 := fun z => c48 (m48.mp z)
            rw [if_neg c49, if_neg z140, if_neg z139]
            by_cases c50 : σ fT_kinds 0 0 = 50
            · have z := m50.mpr c50
              rw [if_pos c50, if_pos z, e_r_ruleShape, K00, if_neg c47, if_neg c49, if_neg c48, e_m_sentence_168, if_neg z138, if_neg z140, if_neg z139]
              exact up (se_rule H0 L0 tt pp (by rw [K00]; omega) (by omega) (by omega))
            · rw [if_neg c50, if_neg (fun z => c50 (m50.mp z))]
              have is0 := fun c => s_r_is (σ := se0 σ) (d := d) (by omega) (k := 0) (by omega) c
              have is1 := fun c => s_r_is (σ := se0 σ) (d := d) (by omega) (k := 1) (by omega) c
              have com : ¬ (σ fT_kinds 0 0 = 11 ∧ (σ fT_kinds 0 1 = 34 ∨ σ fT_kinds 0 1 = 28)) → seA σ τ f N ((c_r_otherShape (d + 1) (se0 σ)).bind fun q2 => r_shape_264 (d + 1) q2.2) (m_sentence_346 (d + 1) (te0 τ)) := by
                intro no
                have cc : c_r_otherShape (d + 1) (se0 σ) = r_otherShape_128 d (se0 σ) := by
                  rw [e_r_otherShape, is0, K00]
                  simp only [Option.bind_some]
                  have c74 : r_otherShape_74 d (se0 σ) = r_otherShape_128 d (se0 σ) := by
                    rw [e_r_otherShape_74, is0, K00]
                    simp only [Option.bind_some]
                    by_cases c11 : σ fT_kinds 0 0 = 11
                    · rw [decide_eq_true c11, if_neg b2i_n, is1, kk]
                      simp only [Option.bind_some]
                      rw [decide_eq_false (fun z => no ⟨c11, Or.inr z⟩), if_pos b2i_f]
                    · rw [decide_eq_false c11, if_pos b2i_f]
                  by_cases c11 : σ fT_kinds 0 0 = 11
                  · rw [decide_eq_true c11, if_neg b2i_n, is1, kk]
                    simp only [Option.bind_some]
                    rw [decide_eq_false (fun z => no ⟨c11, Or.inl z⟩), if_pos b2i_f, c74]
                  · rw [decide_eq_false c11, if_pos b2i_f, c74]
                rw [cc, e_m_sentence_346]
                exact up (osA_se E0 (P_common H0 (d := d) (by omega)) (by omega))
              by_cases c11 : σ fT_kinds 0 0 = 11
              · have n1 := N1 (by omega) (by omega)
                have K1 := hE.2.2.2.1 1 (by omega) (by omega)
                have mk1 : ∀ c m : Int, m = cdM c → 0 ≤ c ∧ c < 64 → (τ fM_token 0 (f + 1) = m ↔ σ fT_kinds 0 1 = c) := fun c m hm hc => by
                  rw [hm, K1.2.2]; exact cdM_inj ⟨K1.1, K1.2.1⟩ hc
                have n125 := mk1 34 125 (by decide) (by decide)
                have n119 := mk1 28 119 (by decide) (by decide)
                have N2 : σ fT_kinds 0 1 ≠ 3 → σ fT_kinds 0 1 ≠ 8 → 2 ≤ (N : Int) := fun h3 h8 => by
                  have := ENV_lt hE (k := 1) (by omega) rfl h3 h8
                  omega
                rw [if_pos (m11.mpr c11), w1, ck_ok _ (by omega)]
                by_cases c34 : σ fT_kinds 0 1 = 34
                · rw [if_pos (n125.mpr c34)]
                  have cc : c_r_otherShape (d + 1) (se0 σ) = cSeq d [(0, 20), (1, 0), (0, 33), (0, 11), (1, 0), (0, 35)] (ga_up (ga_up (se0 σ) fR_sort 0 0 7) fR_p 0 0 2) fun s => some (0, s) := by
                    rw [e_r_otherShape, is0, K00]
                    simp only [Option.bind_some]
                    rw [decide_eq_true c11, if_neg b2i_n, is1, kk]
                    simp only [Option.bind_some]
                    rw [decide_eq_true c34, if_neg b2i_n]
                    rfl
                  rw [cc]
                  have := osA_se E0 (os_7 H0 (d := d) (e := d + 1) (by omega) (by omega) (N2 (by omega) (by omega))) (d := d + 1) (by omega)
                  rw [← mSeq_k (d + 1) _ _ (fun s => m_sentence_350 (d + 1) s), a0] at this
                  exact up this
                · rw [if_neg (fun z => c34 (n125.mp z)), e_m_sentence_285, if_pos (m11.mpr c11), a0, w1, ck_ok _ (by omega), fm fM_token (by decide)]
                  by_cases c28 : σ fT_kinds 0 1 = 28
                  · rw [if_pos (n119.mpr c28)]
                    have cc : c_r_otherShape (d + 1) (se0 σ) = ((c_r_take d (ga_up (ga_up (se0 σ) fR_sort 0 0 8) fR_p 0 0 2) 16).bind fun q11 => (c_r_name d q11.2).bind fun q12 => (c_r_be d q12.2).bind fun q13 => (c_r_run d q13.2).bind fun q14 => some (0, q14.2)) := by
                      rw [e_r_otherShape, is0, K00]
                      simp only [Option.bind_some]
                      rw [decide_eq_true c11, if_neg b2i_n, is1, kk]
                      simp only [Option.bind_some]
                      rw [decide_eq_false c34, if_pos b2i_f, e_r_otherShape_74, is0, K00]
                      simp only [Option.bind_some]
                      rw [decide_eq_true c11, if_neg b2i_n, is1, kk]
                      simp only [Option.bind_some]
                      rw [decide_eq_true c28, if_neg b2i_n]
                    rw [cc]
                    have := osA_se E0 (os_8 H0 (d := d) (e := d + 1) (by omega) (by omega) (N2 (by omega) (by omega)) (by rw [kk]; exact c11) (by rw [kk]; exact c28)) (d := d + 1) (by omega)
                    rw [a0] at this
                    simp only [Option.bind_assoc, Option.bind_some] at this ⊢
                    exact up this
                  · rw [if_neg (fun z => c28 (n119.mp z))]
                    exact com (fun z => by omega)
              · rw [if_neg (fun z => c11 (m11.mp z)), e_m_sentence_285, if_neg (fun z => c11 (m11.mp z))]
                exact com (fun z => c11 z.1)

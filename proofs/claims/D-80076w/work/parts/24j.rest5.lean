/-! behind be, whole -/
theorem bsA_l {σ τ τ1 : ga_S} {f : Int} {N : Nat} {n : Int} {x y : Option ga_R} (h : bsA σ τ1 f N n x y) (g : fr bsM τ τ1) (hk : rKeep τ τ1) : bsA σ τ f N n x y := by
  obtain ⟨σ', τ', h1, h2, h3, h4, h5, h6⟩ := h
  exact ⟨σ', τ', h1, h2, h3, h4, fr_trans g h5, fun a b => ⟨rKeep_trans hk (h6 a b).1, (h6 a b).2⟩⟩
theorem c_run_no {σ : ga_S} {d : Nat} (hd : 2 ≤ d) (hb : σ fR_bad 0 0 = -1) (hp : 0 ≤ σ fR_p 0 0 ∧ σ fR_p 0 0 < 5002) (hk : σ fT_kinds 0 (σ fR_p 0 0) ≠ 0) : c_r_run d σ = some (0, ga_up σ fR_bad 0 0 (σ fR_p 0 0)) := by
  obtain ⟨d, rfl⟩ : ∃ e, d = e + 1 := ⟨d - 1, by omega⟩
  rw [e_r_run, if_pos hb, s_r_isFree (by omega) hp]
  simp only [Option.bind_some]
  rw [decide_eq_false hk, if_pos b2i_f, e_r_run_19, s_r_wrong (by omega), if_pos hb]
  simp only [Option.bind_some]
theorem P_rest {σ τ : ga_S} {f : Int} {N : Nat} {n : Int} (H : bsH σ τ f N n) {d : Nat} (hd : 5 ≤ d) : bsA σ τ f N n (c_r_beShape d σ) (c_m_rest d τ) := by
  obtain ⟨d, rfl⟩ : ∃ e, d = e + 1 := ⟨d - 1, by omega⟩
  have H' := H
  obtain ⟨hE, hP, hJ, hb, hr, hn, hnu, hv, hps⟩ := H
  have hf := hE.1
  have hN := hE.2.1
  have hN5 := hE.2.2.1
  have ok := PR_ok hP hb
  obtain ⟨k, ek⟩ : ∃ k, k = σ fT_kinds 0 (σ fR_p 0 0) := ⟨_, rfl⟩
  have K0 := hE.2.2.2.1 _ ok.2.1 ok.2.2.1
  rw [← ek] at K0
  have mk : ∀ c m : Int, m = cdM c → 0 ≤ c ∧ c < 64 → (cdM k = m ↔ k = c) := fun c m hm hc => by rw [hm]; exact cdM_inj ⟨K0.1, K0.2.1⟩ hc
  obtain ⟨nx, enx⟩ : ∃ nx, nx = if k = 8 ∨ k = 3 then (8 : Int) else σ fT_kinds 0 (σ fR_p 0 0 + 1) := ⟨_, rfl⟩
  have cc : c_r_beShape (d + 1) σ = r_beShape_47 d σ k nx := by
    rw [e_r_beShape, ck_ok _ (by omega), ← ek]
    by_cases c8 : k = 8
    · rw [if_pos c8, e_r_beShape_27, enx, if_pos (Or.inl c8)]
    · rw [if_neg c8]
      by_cases c3 : k = 3
      · rw [if_pos c3, e_r_beShape_27, enx, if_pos (Or.inr c3)]
      · have lt := ENV_lt hE ok.2.2.1 ek.symm c3 c8
        rw [if_neg c3, w32_ok (by omega), ck_ok _ (by omega), enx, if_neg (by omega)]
  have nx2 : k ≠ 3 → k ≠ 8 → σ fR_p 0 0 < N ∧ nx = σ fT_kinds 0 (σ fR_p 0 0 + 1) ∧ ∀ c m : Int, m = cdM c → 0 ≤ c ∧ c < 64 → (τ fM_token 0 (τ fM_at 0 0 + 1) = m ↔ nx = c) := by
    intro h3 h8
    have lt := ENV_lt hE ok.2.2.1 ek.symm h3 h8
    have e : nx = σ fT_kinds 0 (σ fR_p 0 0 + 1) := by rw [enx, if_neg (by omega)]
    refine ⟨lt, e, fun c m hm hc => ?_⟩
    rw [hm, ok.2.2.2, e, show f + σ fR_p 0 0 + 1 = f + (σ fR_p 0 0 + 1) from by omega]
    exact ENV_is hE (by omega) (by omega) hc
  rw [cc, e_m_rest, s_m_look hE hP (by omega)]
  simp only [Option.bind_some]
  rw [if_pos hb, ← ek]
  obtain ⟨τ1, e1⟩ : ∃ x, x = ga_up τ fM_placeWay 0 0 0 := ⟨_, rfl⟩
  have g1 : fr [fM_placeWay] τ τ1 := by rw [e1]; exact fr_u (by decide)
  have pw1 : τ1 fM_placeWay 0 0 = 0 := by rw [e1, up_eq]
  have H1 : bsH σ τ1 f N n := by
    refine ⟨ENV_c hE rfl (g1 _ (by decide)), PR_c hP rfl rfl (g1 _ (by decide)) (g1 _ (by decide)) (g1 _ (by decide)), JR_mv hJ rfl (by rw [g1 _ (by decide)]) rfl (fun z => ⟨z, Or.inl rfl⟩), hb, hr, by rw [g1 _ (by decide)]; exact hn, ?_, hv, hps⟩
    rw [g1 _ (by decide), g1 _ (by decide)]; exact hnu
  have at1 : τ1 fM_at 0 0 = τ fM_at 0 0 := by rw [g1 _ (by decide)]
  have tk1 : τ1 fM_token = τ fM_token := g1 _ (by decide)
  have go : bsA σ τ f N n (r_beShape_113 d σ k nx) (m_rest_111 d τ1 (cdM k)) := by
    refine bsA_l (τ1 := τ1) ?_ (fr_sub g1 (by decide)) (rKeep_f g1 (by decide))
    have go2 : bsA σ τ1 f N n (r_beShape_176 d σ k) (m_rest_197 d τ1 (cdM k)) := by
      rw [e_r_beShape_176, nn_ok _ (by omega), s_k_isArticle (by omega), e_m_rest_197, s_m_isArt (by omega)]
      simp only [Option.bind_some]
      by_cases ca : 9 ≤ k ∧ k ≤ 12
      · rw [decide_eq_true ca, if_neg b2i_n, decide_eq_true ((cdM_art ⟨K0.1, K0.2.1⟩).mpr ca), if_neg b2i_n]
        exact bs_art H1 pw1 (by omega) (nx2 (by omega) (by omega)).1
      · rw [decide_eq_false ca, if_pos b2i_f, decide_eq_false (fun z => ca ((cdM_art ⟨K0.1, K0.2.1⟩).mp z)), if_pos b2i_f, s_r_isPlace (by omega) (by omega)]
        simp only [Option.bind_some]
        rw [← ek]
        have k106 := mk 15 106 (by decide) (by decide)
        have k132 := mk 41 132 (by decide) (by decide)
        have k3 := mk 0 3 (by decide) (by decide)
        by_cases cp : plS k ≠ 0
        · have kk : k = 17 ∨ k = 18 ∨ k = 38 ∨ k = 39 ∨ k = 40 := by
            unfold plS at cp
            by_cases h1 : k = 17
            · exact Or.inl h1
            · rw [if_neg h1] at cp
              by_cases h2 : k = 18
              · exact Or.inr (Or.inl h2)
              · rw [if_neg h2] at cp
                by_cases h3 : k = 38
                · exact Or.inr (Or.inr (Or.inl h3))
                · rw [if_neg h3] at cp
                  by_cases h4 : k = 39
                  · exact Or.inr (Or.inr (Or.inr (Or.inl h4)))
                  · rw [if_neg h4] at cp
                    by_cases h5 : k = 40
                    · exact Or.inr (Or.inr (Or.inr (Or.inr h5)))
                    · rw [if_neg h5] at cp
                      exact absurd rfl cp
          rw [decide_eq_true cp, if_neg b2i_n, if_neg (fun z => by have := k106.mp z; omega), if_neg (fun z => by have := k132.mp z; omega), if_neg (fun z => by have := k3.mp z; omega)]
          exact bs_place H1 (by omega) (by rw [← ek]; exact cp)
        · rw [decide_eq_false cp, if_pos b2i_f]
          by_cases c15 : k = 15
          · rw [if_pos c15, if_pos (k106.mpr c15), ek]
            exact bs_not H1 (by omega) true (by rw [← ek]; exact c15)
          · rw [if_neg c15, if_neg (fun z => c15 (k106.mp z))]
            by_cases c41 : k = 41
            · rw [if_pos c41, if_pos (k132.mpr c41), ek]
              exact bs_not H1 (by omega) false (by rw [← ek]; exact c41)
            · rw [if_neg c41, if_neg (fun z => c41 (k132.mp z))]
              by_cases c0 : k = 0
              · rw [if_pos (k3.mpr c0)]
                exact bs_free H1 (by omega) (by rw [← ek]; exact c0)
              · rw [if_neg (fun z => c0 (k3.mp z)), c_run_no (by omega) hb (by omega) (by rw [← ek]; exact c0)]
                simp only [Option.bind_some]
                obtain ⟨σ2, e2⟩ : ∃ x, x = ga_up (ga_up σ fR_bad 0 0 (σ fR_p 0 0)) fR_sort 0 0 15 := ⟨_, rfl⟩
                rw [← e2]
                have f2 : fr [fR_bad, fR_sort] σ σ2 := by rw [e2]; exact fr_trans (fr_u (by decide)) (fr_u (by decide))
                have b2 : σ2 fR_bad 0 0 = σ fR_p 0 0 := by rw [e2, up_F (by decide), up_eq]
                obtain ⟨τ2, e3⟩ : ∃ x, x = ga_up τ1 fM_sort 0 0 13 := ⟨_, rfl⟩
                have g2 : fr [fM_sort] τ1 τ2 := by rw [e3]; exact fr_u (by decide)
                rw [cb_takes (by omega) (by omega) (by rw [f2 _ (by decide)]; omega), ← e3]
                simp only [Option.bind_some]
                rw [if_pos trivial, e_r_beShape_347, if_neg (by omega)]
                have E2 : ENV σ τ2 f N := ENV_c H1.1 rfl (g2 _ (by decide))
                have P2 : PR σ τ2 f N := PR_c H1.2.1 rfl rfl (g2 _ (by decide)) (g2 _ (by decide)) (g2 _ (by decide))
                obtain ⟨τ3, m3, g3, b3, a3⟩ := m_place_no E2 P2 hb (by rw [← ek]; exact Classical.not_not.mp cp) (d := d) (by omega)
                exact ⟨σ2, τ3, rfl, m3, Or.inr (Or.inl ⟨by omega, by omega, b3, by rw [b2]; exact a3⟩), fr_sub f2 (by decide), fr_trans (fr_sub g2 (by decide)) (fr_sub g3 (by decide)), fun z => by omega⟩
    rw [e_r_beShape_113, e_m_rest_111]
    by_cases c10 : k = 10
    · obtain ⟨lt, en, nk⟩ := nx2 (by omega) (by omega)
      rw [if_pos c10, if_pos ((mk 10 101 (by decide) (by decide)).mpr c10), at1, tk1, w32_ok (x := τ fM_at 0 0 + 1) (by omega), ck_ok _ (by omega)]
      have nk2 := nk 36 127 (by decide) (by decide)
      by_cases c36 : nx = 36
      · have lt2 : σ fR_p 0 0 + 1 < N := ENV_lt hE (by omega) (en.symm.trans c36) (by decide) (by decide)
        rw [if_pos c36, if_pos (nk2.mpr c36)]
        have := bs_act H1 (d := d) (by omega) (by omega)
        rw [at1] at this
        exact this
      · rw [if_neg c36, if_neg (fun z => c36 (nk2.mp z))]
        exact go2
    · rw [if_neg c10, if_neg (fun z => c10 ((mk 10 101 (by decide) (by decide)).mp z))]
      exact go2
  rw [e_r_beShape_47]
  by_cases c9 : k = 9
  · obtain ⟨lt, en, nk⟩ := nx2 (by omega) (by omega)
    rw [if_pos c9, if_pos ((mk 9 100 (by decide) (by decide)).mpr c9), w32_ok (x := τ fM_at 0 0 + 1) (by omega), ck_ok _ (by omega)]
    have nk2 := nk 27 118 (by decide) (by decide)
    by_cases c27 : nx = 27
    · have lt2 : σ fR_p 0 0 + 1 < N := ENV_lt hE (by omega) (en.symm.trans c27) (by decide) (by decide)
      rw [if_pos c27, if_pos (nk2.mpr c27)]
      exact bs_kind H' (by omega) (by omega)
    · rw [if_neg c27, if_neg (fun z => c27 (nk2.mp z)), ← e1]
      exact go
  · rw [if_neg c9, if_neg (fun z => c9 ((mk 9 100 (by decide) (by decide)).mp z)), ← e1]
    exact go

/-! has, can, relates -/
theorem os_D {σ τ : ga_S} {f : Int} {N : Nat} (H : stH σ τ f N) {d : Nat} (hd : 4 ≤ d) {c s : Int} {l : List (Nat × Int)} (hc : 0 ≤ c ∧ c < 64) (h3 : c ≠ 3) (h8 : c ≠ 8) (hl : okSeq l = true) (hn : nSeq l = 2) (hs : s = 17 ∨ s = 18) {X : ga_S → Option ga_R} (hX : ∀ σ2, fr nlC σ σ2 → ∀ v σ4, c_r_take d (ga_up σ2 fR_sort 0 0 s) c = some (v, σ4) → σ4 fR_sort 0 0 = s → X σ2 = cSeq d l σ4 fun s => some (0, s)) : osA σ τ f N ((c_r_nameOfList d σ).bind fun q24 => X q24.2) ((c_m_name0 d (ga_up τ fM_sort 0 0 s)).bind fun q => (c_m_take d q.2 (cdM c)).bind fun q' => mSeq d l q'.2 fun s => some (0, s)) := by
  obtain ⟨τ1, e1⟩ : ∃ x, x = ga_up τ fM_sort 0 0 s := ⟨_, rfl⟩
  have g1 : fr [fM_sort] τ τ1 := by rw [e1]; exact fr_u (by decide)
  obtain ⟨E1, P1, J1, hb, hp, hr, _⟩ := stH_c H (fr_refl [] σ) g1 (by decide) (by decide)
  obtain ⟨r2, σ2, τ2, c2, m2, P2, J2, f2, g2, R2, k2, l2, n2, X2⟩ := P_nol E1 P1 J1 ⟨by rw [hr.2.2]; exact Int.le_refl _, by rw [hr.2.2, hr.2.1]; exact Int.le_refl _⟩ (d := d) hd
  obtain ⟨σ3, e3⟩ : ∃ x, x = ga_up σ2 fR_sort 0 0 s := ⟨_, rfl⟩
  have f3 : fr [fR_sort] σ2 σ3 := by rw [e3]; exact fr_u (by decide)
  have E2 : ENV σ2 τ2 f N := ENV_c E1 (f2 _ (by decide)) (g2 _ (by decide))
  have E3 : ENV σ3 τ2 f N := ENV_c E2 (f3 _ (by decide)) rfl
  have P3 : PR σ3 τ2 f N := PR_c P2 (f3 _ (by decide)) (f3 _ (by decide)) rfl rfl rfl
  have J3 : JR σ3 τ2 := JR_n J2 (n := σ2 fR_runs 0 0) J2.1 (Int.le_refl _) (by rw [f3 _ (by decide)]) (by rw [f3 _ (by decide)]) (by rw [f3 _ (by decide)]) (f3 _ (by decide))
  obtain ⟨v4, σ4, τ4, c4, m4, Q4, f4, g4, _⟩ := S_take E3 P3 J3 (d := d) (by omega) (c := c) (m := cdM c) rfl hc h3 h8
  have E4 := SQ_E Q4 E3
  have s4 : σ4 fR_sort 0 0 = s := by rw [f4 _ (by decide), e3, up_eq]
  obtain ⟨σ5, τ5, c5, m5, Q5, X5⟩ := SEQ hd hd l hl σ4 τ4 E4 Q4.1 Q4.2.1
  rw [hn] at X5
  rw [← e1, c2, m2]
  simp only [Option.bind_some]
  rw [hX σ2 f2 v4 σ4 (by rw [← e3]; exact c4) s4, c5, m4]
  simp only [Option.bind_some]
  rw [m5]
  refine ⟨σ5, τ5, rfl, rfl, PG_R Q5.1 (fun _ _ => Q5.2.1.2.2.1), fr_trans (fr_sub f2 (by decide)) (fr_trans (fr_sub f3 (by decide)) (fr_trans (fr_sub f4 (by decide)) (fr_sub Q5.2.2.1 (by decide)))), fr_trans (fr_sub g1 (by decide)) (fr_trans (fr_sub g2 (by decide)) (fr_trans (fr_sub g4 (by decide)) (fr_sub Q5.2.2.2.1 (by decide)))), fun z _ => ?_⟩
  obtain ⟨Y1, Y2, Y0, Y3⟩ := X5 z
  have z4 := (Q5.2.2.2.2.2.2.2 z).1
  have z3 := (Q4.2.2.2.2.2.2.2 z4).1
  have z2 : σ2 fR_bad 0 0 = -1 := by rw [← f3 _ (by decide)]; exact z3
  obtain ⟨A1, A2, A3, A4, A5, A6, _⟩ := X2 z2
  rw [hr.2.1] at A3 A4
  rw [hr.2.2] at A5 A6
  rw [f4 _ (by decide), f3 _ (by decide), R2, hr.1] at Y1 Y3
  rw [g4 _ (by decide), A4] at Y2 Y3
  rw [A3] at A6
  have s5 : σ5 fR_sort 0 0 = s := by rw [Q5.2.2.1 _ (by decide)]; exact s4
  have t5 : τ5 fM_sort 0 0 = s := by rw [Q5.2.2.2.1 _ (by decide), g4 _ (by decide), g2 _ (by decide), e1, up_eq]
  have nm : σ5 fR_names 0 0 = 1 := by rw [Q5.2.2.1 _ (by decide), f4 _ (by decide), f3 _ (by decide)]; exact A5
  have n5 : nn σ5 τ5 f 0 0 := by
    refine nn_keep A6 ?_ ?_ (rKeep_trans Q4.2.2.2.2.2.1 Q5.2.2.2.2.2.1) ?_
    · rw [Q5.2.2.1 _ (by decide), f4 _ (by decide), f3 _ (by decide)]
    · rw [Q5.2.2.1 _ (by decide), f4 _ (by decide), f3 _ (by decide)]
    · rw [Q5.2.2.1 _ (by decide), f4 _ (by decide), f3 _ (by decide)]
  refine ⟨by rw [t5, s5], Or.inr (Or.inr (Or.inr (Or.inl ⟨by omega, nm, n5, Y1, Y3 0 (by decide) (by decide), Y3 1 (by decide) (by decide), fun _ => (Y0 (OR_0 (by rw [f4 _ (by decide), f3 _ (by decide), R2, hr.1]))).1, fun h => ?_⟩)))⟩
  omega
/-- one, or various -/
theorem P_oov {σ τ : ga_S} {f : Int} {N : Nat} (hE : ENV σ τ f N) (hP : PR σ τ f N) (hJ : JR σ τ) (hb : σ fR_bad 0 0 = -1) {d : Nat} (hd : 3 ≤ d) {a : Int} {F : Nat} (hF : (a = 0 ∧ F = fR_secondOne) ∨ (a = 1 ∧ F = fR_firstOne)) : ∃ v σ' τ', c_r_oneOrVarious d σ a = some (0, σ') ∧ c_m_oneOrVarious d τ = some (v, τ') ∧ (v = 0 ∨ v = 1) ∧ fr (F :: pcL) σ σ' ∧ fr pmL τ τ' ∧ σ' F 0 0 = v ∧ ((σ' fR_bad 0 0 = -1 ∧ PR σ' τ' f N ∧ JR σ' τ') ∨ (0 ≤ σ' fR_bad 0 0 ∧ σ' fR_bad 0 0 ≤ N ∧ τ' fM_isBad 0 0 = 1 ∧ τ' fM_badAt 0 0 = f + σ' fR_bad 0 0 ∧ 0 ≤ σ' fR_p 0 0 ∧ σ' fR_p 0 0 ≤ N)) := by
  obtain ⟨d, rfl⟩ : ∃ e, d = e + 1 := ⟨d - 1, by omega⟩
  have hf := hE.1
  have hN := hE.2.1
  have ok := PR_ok hP hb
  have set : ∀ (v : Int) (σ1 : ga_S), (v = 0 ∨ v = 1) → r_oneOrVarious_20 d σ1 a v = some (0, ga_up σ1 F 0 0 v) := by
    intro v σ1 hv
    rw [e_r_oneOrVarious_20]
    rcases hF with ⟨h1, h2⟩ | ⟨h1, h2⟩
    · rw [if_pos h1, z1_ok _ (by omega), h2]
    · rw [if_neg (by omega), z1_ok _ (by omega), h2]
  have nF : F ≠ fR_p ∧ F ≠ fR_bad ∧ F ≠ fR_runs ∧ F ≠ fT_kinds := by
    rcases hF with ⟨_, h2⟩ | ⟨_, h2⟩ <;> rw [h2] <;> decide
  have nx31 := s_nx hE hP (d := d) (by omega) (c := 31) (m := 122) (by decide) (by decide)
  have nx32 := s_nx hE hP (d := d) (by omega) (c := 32) (m := 123) (by decide) (by decide)
  have good : ∀ v : Int, (v = 0 ∨ v = 1) → σ fR_p 0 0 < N → ∃ σ' τ', ga_up (ga_up σ fR_p 0 0 (σ fR_p 0 0 + 1)) F 0 0 v = σ' ∧ ga_up τ fM_at 0 0 (τ fM_at 0 0 + 1) = τ' ∧ fr (F :: pcL) σ σ' ∧ fr pmL τ τ' ∧ σ' F 0 0 = v ∧ σ' fR_bad 0 0 = -1 ∧ PR σ' τ' f N ∧ JR σ' τ' := by
    intro v hv lt
    have f1 : fr [fR_p] σ (ga_up σ fR_p 0 0 (σ fR_p 0 0 + 1)) := fr_u (by decide)
    have g1 : fr [fM_at] τ (ga_up τ fM_at 0 0 (τ fM_at 0 0 + 1)) := fr_u (by decide)
    obtain ⟨E1, P1, J1⟩ := ST_mv hE hP hJ hb (n := 1) (by omega) (by omega) f1 g1 (by decide) (by decide) (up_eq ..) (up_eq ..)
    refine ⟨_, _, rfl, rfl, fr_trans (fr_sub f1 (by intro G hG; rw [List.mem_singleton] at hG; rw [hG]; exact List.mem_cons_of_mem _ (by decide))) (fr_u (List.mem_cons_self ..)), fr_sub g1 (by decide), up_eq .., ?_, ?_, ?_⟩
    · rw [up_F nF.2.1.symm, up_F (by decide)]; exact hb
    · exact PR_c P1 (by rw [up_F nF.1.symm]) (by rw [up_F nF.2.1.symm]) rfl rfl rfl
    · exact JR_n J1 (n := σ fR_runs 0 0) hJ.1 (by rw [up_F (by decide)]; exact Int.le_refl _) (by rw [up_F nF.2.2.1.symm, up_F (by decide)]) (by rw [up_F nF.2.1.symm]) (by rw [up_F nF.1.symm]) (by rw [up_F nF.2.2.2.symm])
  rw [e_r_oneOrVarious, s_r_takes hE hP (by omega), e_m_oneOrVarious, nx31]
  simp only [Option.bind_some]
  by_cases c31 : σ fR_bad 0 0 = -1 ∧ σ fT_kinds 0 (σ fR_p 0 0) = 31
  · have lt : σ fR_p 0 0 < N := ENV_lt hE ok.2.2.1 c31.2 (by decide) (by decide)
    obtain ⟨σ', τ', x1, x2, x3, x4, x5, x6, x7, x8⟩ := good 1 (Or.inr rfl) lt
    rw [decide_eq_true c31, if_pos c31, if_neg b2i_n, if_neg b2i_n, show b2i true = 1 from rfl, set 1 _ (Or.inr rfl), e_m_oneOrVarious_24, z1_ok _ (by decide), w32_ok (by omega), x1, x2]
    exact ⟨1, σ', τ', rfl, rfl, Or.inr rfl, x3, x4, x5, Or.inl ⟨x6, x7, x8⟩⟩
  · rw [decide_eq_false c31, if_neg c31, if_pos b2i_f, if_pos b2i_f, nx32]
    simp only [Option.bind_some]
    by_cases c32 : σ fR_bad 0 0 = -1 ∧ σ fT_kinds 0 (σ fR_p 0 0) = 32
    · have lt : σ fR_p 0 0 < N := ENV_lt hE ok.2.2.1 c32.2 (by decide) (by decide)
      obtain ⟨σ', τ', x1, x2, x3, x4, x5, x6, x7, x8⟩ := good 0 (Or.inl rfl) lt
      have tk : c_r_take d σ 32 = some (1, ga_up σ fR_p 0 0 (σ fR_p 0 0 + 1)) := by
        obtain ⟨d, rfl⟩ : ∃ e, d = e + 1 := ⟨d - 1, by omega⟩
        rw [e_r_take, if_pos hb, ck_ok _ (by omega), if_pos c32.2, w32_ok (by omega)]
      rw [decide_eq_true c32, if_neg b2i_n, tk]
      simp only [Option.bind_some]
      rw [show b2i false = 0 from rfl, set 0 _ (Or.inl rfl), e_m_oneOrVarious_24, z1_ok _ (by decide), w32_ok (by omega), x1, x2]
      exact ⟨0, σ', τ', rfl, rfl, Or.inl rfl, x3, x4, x5, Or.inl ⟨x6, x7, x8⟩⟩
    · have nk : σ fT_kinds 0 (σ fR_p 0 0) ≠ 32 := fun z => c32 ⟨hb, z⟩
      have tk : c_r_take d σ 32 = some (0, ga_up σ fR_bad 0 0 (σ fR_p 0 0)) := by
        obtain ⟨d, rfl⟩ : ∃ e, d = e + 1 := ⟨d - 1, by omega⟩
        rw [e_r_take, if_pos hb, ck_ok _ (by omega), if_neg nk, e_r_take_24, s_r_wrong (by omega), if_pos hb]
        simp only [Option.bind_some]
        rw [z1_ok _ (by decide)]
      rw [decide_eq_false c32, if_pos b2i_f, tk, s_m_odd (by omega), if_pos ok.1]
      simp only [Option.bind_some]
      rw [show b2i false = 0 from rfl, set 0 _ (Or.inl rfl), e_m_oneOrVarious_24, z1_ok _ (by decide)]
      refine ⟨0, _, _, rfl, rfl, Or.inl rfl, fr_trans (L := F :: pcL) (σ1 := ga_up σ fR_bad 0 0 (σ fR_p 0 0)) (fr_u (List.mem_cons_of_mem F (show fR_bad ∈ pcL by decide))) (fr_u (List.mem_cons_self ..)), fr_trans (fr_trans (fr_u (by decide)) (fr_u (by decide))) (fr_u (by decide)), up_eq .., Or.inr ⟨?_, ?_, ?_, ?_, ?_, ?_⟩⟩
      · rw [up_F nF.2.1.symm, up_eq]; exact ok.2.1
      · rw [up_F nF.2.1.symm, up_eq]; exact ok.2.2.1
      · rw [up_F (by decide), up_F (by decide), up_eq]
      · rw [up_F (by decide), up_eq, up_F nF.2.1.symm, up_eq]; exact ok.2.2.2
      · rw [up_F nF.1.symm, up_F (by decide)]; exact ok.2.1
      · rw [up_F nF.1.symm, up_F (by decide)]; exact ok.2.2.1

/-! relates -/
theorem cb_oov {σ : ga_S} {d : Nat} (hd : 3 ≤ d) (hb : σ fR_bad 0 0 ≠ -1) (hp : 0 ≤ σ fR_p 0 0 ∧ σ fR_p 0 0 ≤ 5002) {a : Int} {F : Nat} (hF : (a = 0 ∧ F = fR_secondOne) ∨ (a = 1 ∧ F = fR_firstOne)) : c_r_oneOrVarious d σ a = some (0, ga_up σ F 0 0 0) := by
  obtain ⟨d, rfl⟩ : ∃ e, d = e + 1 := ⟨d - 1, by omega⟩
  rw [e_r_oneOrVarious, cb_takes (by omega) hb hp]
  simp only [Option.bind_some]
  rw [if_pos trivial, cb_take (by omega) hb]
  simp only [Option.bind_some]
  rw [e_r_oneOrVarious_20]
  rcases hF with ⟨h1, h2⟩ | ⟨h1, h2⟩
  · rw [if_pos h1, z1_ok _ (by decide), h2]
  · rw [if_neg (by omega), z1_ok _ (by decide), h2]
theorem mb_oov {τ : ga_S} {d : Nat} (hd : 2 ≤ d) (hb : τ fM_isBad 0 0 = 1) : c_m_oneOrVarious d τ = some (0, ga_up τ fM_at 0 0 (w32 (τ fM_at 0 0 + 1))) := by
  obtain ⟨d, rfl⟩ : ∃ e, d = e + 1 := ⟨d - 1, by omega⟩
  rw [e_m_oneOrVarious, mb_isNext (by omega) hb]
  simp only [Option.bind_some]
  rw [if_pos trivial, mb_isNext (by omega) hb]
  simp only [Option.bind_some]
  rw [if_pos trivial, mb_odd (by omega) hb]
  simp only [Option.bind_some]
  rw [e_m_oneOrVarious_24, z1_ok _ (by decide)]
/-- wrong on both sides -/
def BD (σ τ : ga_S) (f : Int) (N : Nat) : Prop := 0 ≤ σ fR_bad 0 0 ∧ σ fR_bad 0 0 ≤ N ∧ τ fM_isBad 0 0 = 1 ∧ τ fM_badAt 0 0 = f + σ fR_bad 0 0 ∧ 0 ≤ σ fR_p 0 0 ∧ σ fR_p 0 0 ≤ N
theorem BD_c {σ τ σ' τ' : ga_S} {f : Int} {N : Nat} (h : BD σ τ f N) {LC LM : List Nat} (h1 : fr LC σ σ') (h2 : fr LM τ τ') (hc : [fR_bad, fR_p].all (fun F => !(LC.contains F)) = true) (hm : [fM_isBad, fM_badAt].all (fun F => !(LM.contains F)) = true) : BD σ' τ' f N := by
  unfold BD at h ⊢
  rw [fr_no h1 hc (F := fR_bad) (by decide), fr_no h1 hc (F := fR_p) (by decide), fr_no h2 hm (F := fM_isBad) (by decide), fr_no h2 hm (F := fM_badAt) (by decide)]
  exact h
theorem BD_R {σ τ : ga_S} {f : Int} {N : Nat} (h : PR σ τ f N) (hb : σ fR_bad 0 0 ≠ -1) : BD σ τ f N := by
  rcases h.2 with g | g
  · exact absurd g.1 hb
  · exact ⟨g.1, g.2.1, g.2.2.1, g.2.2.2, h.1.1, h.1.2.1⟩
def ooC : List Nat := [fR_firstOne, fR_secondOne]
def ooM : List Nat := [fM_at, fM_firstIsOne, fM_secondIsOne]
theorem bt_2 {σ τ : ga_S} {f : Int} {N : Nat} (H : BD σ τ f N) (hN : (N : Int) ≤ 5000) {d : Nat} (hd : 3 ≤ d) : ∃ σ' τ', ((c_r_oneOrVarious d σ 0).bind fun q39 => (c_r_run d q39.2).bind fun q40 => some ((0 : Int), q40.2)) = some (0, σ') ∧ ((c_m_oneOrVarious d τ).bind fun q7 => ga_01 q7.1 ((c_m_run d (ga_up q7.2 fM_secondIsOne 0 0 q7.1)).bind fun q8 => some ((0 : Int), q8.2))) = some (0, τ') ∧ BD σ' τ' f N ∧ fr ooC σ σ' ∧ fr ooM τ τ' := by
  obtain ⟨h1, h2, h3, h4, h5, h6⟩ := H
  rw [cb_oov hd (by omega) (by omega) (F := fR_secondOne) (Or.inl ⟨rfl, rfl⟩), mb_oov (by omega) h3]
  simp only [Option.bind_some]
  rw [z1_ok _ (by decide), cb_run (by omega) (by rw [up_F (by decide)]; omega), mb_run (by omega) (by rw [up_F (by decide), up_F (by decide)]; exact h3)]
  simp only [Option.bind_some]
  have fc : fr ooC σ (ga_up σ fR_secondOne 0 0 0) := fr_u (by decide)
  have fm : fr ooM τ (ga_up (ga_up τ fM_at 0 0 (w32 (τ fM_at 0 0 + 1))) fM_secondIsOne 0 0 0) := fr_trans (fr_u (by decide)) (fr_u (by decide))
  exact ⟨_, _, rfl, rfl, BD_c ⟨h1, h2, h3, h4, h5, h6⟩ fc fm (by decide) (by decide), fc, fm⟩
theorem bt_1 {σ τ : ga_S} {f : Int} {N : Nat} (H : BD σ τ f N) (hN : (N : Int) ≤ 5000) {d : Nat} (hd : 3 ≤ d) : ∃ σ' τ', ((c_r_run d σ).bind fun q37 => (c_r_take d q37.2 20).bind fun q38 => (c_r_oneOrVarious d q38.2 0).bind fun q39 => (c_r_run d q39.2).bind fun q40 => some ((0 : Int), q40.2)) = some (0, σ') ∧ ((c_m_run d τ).bind fun q5 => (c_m_take d q5.2 111).bind fun q6 => (c_m_oneOrVarious d q6.2).bind fun q7 => ga_01 q7.1 ((c_m_run d (ga_up q7.2 fM_secondIsOne 0 0 q7.1)).bind fun q8 => some ((0 : Int), q8.2))) = some (0, τ') ∧ BD σ' τ' f N ∧ fr ooC σ σ' ∧ fr ooM τ τ' := by
  have H' := H
  obtain ⟨h1, h2, h3, h4, h5, h6⟩ := H
  rw [cb_run (by omega) (by omega), mb_run (by omega) h3]
  simp only [Option.bind_some]
  rw [cb_take (by omega) (by omega), mb_take (by omega) h3]
  simp only [Option.bind_some]
  exact bt_2 H' hN hd
theorem PG_B {σ τ : ga_S} {f : Int} {N : Nat} (h : BD σ τ f N) : PG σ τ f N := Or.inr (Or.inl ⟨h.1, h.2.1, h.2.2.1, h.2.2.2.1⟩)
theorem os_19 {σ τ : ga_S} {f : Int} {N : Nat} (H : stH σ τ f N) {d : Nat} (hd : 4 ≤ d) (hv : σ fR_verb 0 0 = 30) : osA σ τ f N ((c_r_nameOfList d σ).bind fun q24 => r_otherShape_513 d q24.2 19) (c_m_others (d + 1) τ 121) := by
  have hN5 := H.1.2.2.1
  rw [e_m_others, if_neg (by decide), if_neg (by decide), if_pos rfl]
  obtain ⟨τ1, e1⟩ : ∃ x, x = ga_up τ fM_sort 0 0 19 := ⟨_, rfl⟩
  rw [← e1]
  have g1 : fr [fM_sort] τ τ1 := by rw [e1]; exact fr_u (by decide)
  obtain ⟨E1, P1, J1, hb, hp, hr, _⟩ := stH_c H (fr_refl [] σ) g1 (by decide) (by decide)
  obtain ⟨r2, σ2, τ2, c2, m2, P2, J2, f2, g2, R2, k2, l2, n2, X2⟩ := P_nol E1 P1 J1 ⟨by rw [hr.2.2]; exact Int.le_refl _, by rw [hr.2.2, hr.2.1]; exact Int.le_refl _⟩ (d := d) hd
  obtain ⟨σ3, e3⟩ : ∃ x, x = ga_up σ2 fR_sort 0 0 19 := ⟨_, rfl⟩
  have f3 : fr [fR_sort] σ2 σ3 := by rw [e3]; exact fr_u (by decide)
  have E2 : ENV σ2 τ2 f N := ENV_c E1 (f2 _ (by decide)) (g2 _ (by decide))
  have E3 : ENV σ3 τ2 f N := ENV_c E2 (f3 _ (by decide)) rfl
  have P3 : PR σ3 τ2 f N := PR_c P2 (f3 _ (by decide)) (f3 _ (by decide)) rfl rfl rfl
  have J3 : JR σ3 τ2 := JR_n J2 (n := σ2 fR_runs 0 0) J2.1 (Int.le_refl _) (by rw [f3 _ (by decide)]) (by rw [f3 _ (by decide)]) (by rw [f3 _ (by decide)]) (f3 _ (by decide))
  obtain ⟨v4, σ4, τ4, c4, m4, Q4, f4, g4, _⟩ := S_take E3 P3 J3 (d := d) (by omega) (c := 30) (m := 121) (by decide) (by decide) (by decide) (by decide)
  have E4 := SQ_E Q4 E3
  have s4 : σ4 fR_sort 0 0 = 19 := by rw [f4 _ (by decide), e3, up_eq]
  have t4 : τ4 fM_sort 0 0 = 19 := by rw [g4 _ (by decide), g2 _ (by decide), e1, up_eq]
  have v2 : σ2 fR_verb 0 0 = 30 := by rw [f2 _ (by decide)]; exact hv
  rw [c2, m2]
  simp only [Option.bind_some]
  rw [e_r_otherShape_513, v2, ← e3, c4, m4]
  simp only [Option.bind_some]
  rw [s4, if_neg (by decide), if_neg (by decide)]
  have F4 : fr osC σ σ4 := fr_trans (fr_sub f2 (by decide)) (fr_trans (fr_sub f3 (by decide)) (fr_sub f4 (by decide)))
  have M4 : fr osM τ τ4 := fr_trans (fr_sub g1 (by decide)) (fr_trans (fr_sub g2 (by decide)) (fr_sub g4 (by decide)))
  by_cases cb : σ4 fR_bad 0 0 = -1
  · obtain ⟨v5, σ5, τ5, c5, m5, v01, f5, g5, o5, X5⟩ := P_oov E4 Q4.1 Q4.2.1 cb (d := d) (by omega) (a := 1) (F := fR_firstOne) (Or.inr ⟨rfl, rfl⟩)
    rw [c5, m5]
    simp only [Option.bind_some]
    rw [z1_ok _ (by omega)]
    obtain ⟨τ6, e6⟩ : ∃ x, x = ga_up τ5 fM_firstIsOne 0 0 v5 := ⟨_, rfl⟩
    rw [← e6]
    have g6 : fr [fM_firstIsOne] τ5 τ6 := by rw [e6]; exact fr_u (by decide)
    have F5 : fr osC σ σ5 := fr_trans F4 (fr_sub f5 (by decide))
    have M6 : fr osM τ τ6 := fr_trans M4 (fr_trans (fr_sub g5 (by decide)) (fr_sub g6 (by decide)))
    rcases X5 with ⟨b5, P5, J5⟩ | B5
    · have E5 : ENV σ5 τ6 f N := ENV_c E4 (f5 _ (by decide)) ((g6 _ (by decide)).trans (g5 _ (by decide)))
      have P6 : PR σ5 τ6 f N := PR_c P5 rfl rfl (g6 _ (by decide)) (g6 _ (by decide)) (g6 _ (by decide))
      have J6 : JR σ5 τ6 := JR_mv J5 rfl (by rw [g6 _ (by decide)]) rfl (fun z => ⟨z, Or.inl rfl⟩)
      obtain ⟨r7, σ7, τ7, c7, m7, Q7, G7⟩ := S_run E5 P6 J6 (d := d) (by omega)
      have E7 := SQ_E Q7 E5
      obtain ⟨v8, σ8, τ8, c8, m8, Q8, f8, g8, _⟩ := S_take E7 Q7.1 Q7.2.1 (d := d) (by omega) (c := 20) (m := 111) (by decide) (by decide) (by decide) (by decide)
      have E8 := SQ_E Q8 E7
      rw [c7, m7]
      simp only [Option.bind_some]
      rw [c8, m8]
      simp only [Option.bind_some]
      have F8 : fr osC σ σ8 := fr_trans F5 (fr_trans (fr_sub Q7.2.2.1 (by decide)) (fr_sub f8 (by decide)))
      have M8 : fr osM τ τ8 := fr_trans M6 (fr_trans (fr_sub Q7.2.2.2.1 (by decide)) (fr_sub g8 (by decide)))
      by_cases cb8 : σ8 fR_bad 0 0 = -1
      · obtain ⟨v9, σ9, τ9, c9, m9, v901, f9, g9, o9, X9⟩ := P_oov E8 Q8.1 Q8.2.1 cb8 (d := d) (by omega) (a := 0) (F := fR_secondOne) (Or.inl ⟨rfl, rfl⟩)
        rw [c9, m9]
        simp only [Option.bind_some]
        rw [z1_ok _ (by omega)]
        obtain ⟨τa, ea⟩ : ∃ x, x = ga_up τ9 fM_secondIsOne 0 0 v9 := ⟨_, rfl⟩
        rw [← ea]
        have ga : fr [fM_secondIsOne] τ9 τa := by rw [ea]; exact fr_u (by decide)
        have F9 : fr osC σ σ9 := fr_trans F8 (fr_sub f9 (by decide))
        have Ma : fr osM τ τa := fr_trans M8 (fr_trans (fr_sub g9 (by decide)) (fr_sub ga (by decide)))
        rcases X9 with ⟨b9, P9, J9⟩ | B9
        · have E9 : ENV σ9 τa f N := ENV_c E8 (f9 _ (by decide)) ((ga _ (by decide)).trans (g9 _ (by decide)))
          have Pa : PR σ9 τa f N := PR_c P9 rfl rfl (ga _ (by decide)) (ga _ (by decide)) (ga _ (by decide))
          have Ja : JR σ9 τa := JR_mv J9 rfl (by rw [ga _ (by decide)]) rfl (fun z => ⟨z, Or.inl rfl⟩)
          obtain ⟨rb, σb, τb, cc, mb, Qb, Gb⟩ := S_run E9 Pa Ja (d := d) (by omega)
          rw [cc, mb]
          simp only [Option.bind_some]
          refine ⟨σb, τb, rfl, rfl, PG_R Qb.1 (fun _ _ => Qb.2.1.2.2.1), fr_trans F9 (fr_sub Qb.2.2.1 (by decide)), fr_trans Ma (fr_sub Qb.2.2.2.1 (by decide)), fun z _ => ?_⟩
          obtain ⟨A1, A2, A3, A4, _⟩ := Gb z
          have z7 := (Q8.2.2.2.2.2.2.2 cb8).1
          obtain ⟨D1, D2, D3, D4, _⟩ := G7 z7
          have z3 := (Q4.2.2.2.2.2.2.2 cb).1
          have z2 : σ2 fR_bad 0 0 = -1 := by rw [← f3 _ (by decide)]; exact z3
          obtain ⟨N1, N2, N3, N4, N5, N6, _⟩ := X2 z2
          rw [hr.2.1] at N3 N4
          rw [hr.2.2] at N5 N6
          rw [N3] at N6
          have rs5 : σ5 fR_runs 0 0 = 0 := by rw [f5 _ (by decide), f4 _ (by decide), f3 _ (by decide), R2]; exact hr.1
          have rm6 : τ6 fM_runs 0 0 = 1 := by rw [g6 _ (by decide), g5 _ (by decide), g4 _ (by decide)]; exact N4
          rw [rs5] at D2 D4
          rw [rm6] at D3 D4
          have rs9 : σ9 fR_runs 0 0 = 1 := by rw [f9 _ (by decide), f8 _ (by decide)]; exact D2
          have rma : τa fM_runs 0 0 = 2 := by rw [ga _ (by decide), g9 _ (by decide), g8 _ (by decide)]; exact D3
          rw [rs9] at A2 A4
          rw [rma] at A3 A4
          have q9 : rr σ9 τa f 0 1 := by
            refine rr_keep D4 (by omega) (rKeepC_eq ?_ ?_) (rKeep_eq ?_ ?_ ?_) ?_
            · rw [f9 _ (by decide), f8 _ (by decide)]
            · rw [f9 _ (by decide), f8 _ (by decide)]
            · rw [ga _ (by decide), g9 _ (by decide), g8 _ (by decide)]
            · rw [ga _ (by decide), g9 _ (by decide), g8 _ (by decide)]
            · rw [ga _ (by decide), g9 _ (by decide), g8 _ (by decide)]
            · rw [f9 _ (by decide), f8 _ (by decide)]
          have sb : σb fR_sort 0 0 = 19 := by rw [Qb.2.2.1 _ (by decide), f9 _ (by decide), f8 _ (by decide), Q7.2.2.1 _ (by decide), f5 _ (by decide)]; exact s4
          have tb : τb fM_sort 0 0 = 19 := by rw [Qb.2.2.2.1 _ (by decide), ga _ (by decide), g9 _ (by decide), g8 _ (by decide), Q7.2.2.2.1 _ (by decide), g6 _ (by decide), g5 _ (by decide)]; exact t4
          have cF : ∀ F, F ∈ [fR_names, fR_nameFrom, fR_nameTo, fT_kinds] → σb F = σ2 F := by
            intro F hF
            have h1 : F ∉ rcL := mem_no (L := [fR_names, fR_nameFrom, fR_nameTo, fT_kinds]) (by decide) F hF
            have h2 : F ∉ (fR_secondOne :: pcL) := mem_no (L := [fR_names, fR_nameFrom, fR_nameTo, fT_kinds]) (by decide) F hF
            have h3 : F ∉ pcL := mem_no (L := [fR_names, fR_nameFrom, fR_nameTo, fT_kinds]) (by decide) F hF
            have h4 : F ∉ (fR_firstOne :: pcL) := mem_no (L := [fR_names, fR_nameFrom, fR_nameTo, fT_kinds]) (by decide) F hF
            have h5 : F ∉ [fR_sort] := mem_no (L := [fR_names, fR_nameFrom, fR_nameTo, fT_kinds]) (by decide) F hF
            rw [Qb.2.2.1 F h1, f9 F h2, f8 F h3, Q7.2.2.1 F h1, f5 F h4, f4 F h3, f3 F h5]
          have rk : rKeep τ2 τb := rKeep_trans Q4.2.2.2.2.2.1 (rKeep_trans (rKeep_f g5 (by decide)) (rKeep_trans (rKeep_f g6 (by decide)) (rKeep_trans Q7.2.2.2.2.2.1 (rKeep_trans Q8.2.2.2.2.2.1 (rKeep_trans (rKeep_f g9 (by decide)) (rKeep_trans (rKeep_f ga (by decide)) Qb.2.2.2.2.2.1))))))
          refine ⟨by rw [tb, sb], Or.inr (Or.inr (Or.inr (Or.inl ⟨by omega, by rw [cF _ (by decide)]; exact N5, nn_keep N6 (by rw [cF _ (by decide)]) (by rw [cF _ (by decide)]) rk (cF _ (by decide)), by omega, rr_Q q9 (by omega) Qb, A4, fun z => by omega, fun _ => ⟨?_, ?_⟩⟩)))⟩
          · rw [Qb.2.2.2.1 _ (by decide), ga _ (by decide), g9 _ (by decide), g8 _ (by decide), Q7.2.2.2.1 _ (by decide), e6, up_eq, Qb.2.2.1 _ (by decide), f9 _ (by decide), f8 _ (by decide), Q7.2.2.1 _ (by decide), o5]; exact ⟨rfl, by omega⟩
          · rw [Qb.2.2.2.1 _ (by decide), ea, up_eq, Qb.2.2.1 _ (by decide), o9]; exact ⟨rfl, by omega⟩
        · have B9' : BD σ9 τ9 f N := B9
          have Ba : BD σ9 τa f N := BD_c B9' (fr_refl [] σ9) ga (by decide) (by decide)
          rw [cb_run (by omega) (by have := Ba.1; omega), mb_run (by omega) Ba.2.2.1]
          simp only [Option.bind_some]
          exact ⟨σ9, τa, rfl, rfl, PG_B Ba, F9, Ma, fun z => by have := Ba.1; omega⟩
      · obtain ⟨σ9, τ9, c9, m9, B9, f9, g9⟩ := bt_2 (BD_R Q8.1 cb8) hN5 (d := d) (by omega)
        exact ⟨σ9, τ9, c9, m9, PG_B B9, fr_trans F8 (fr_sub f9 (by decide)), fr_trans M8 (fr_sub g9 (by decide)), fun z => by have := B9.1; omega⟩
    · have B5' : BD σ5 τ5 f N := B5
      have B6 : BD σ5 τ6 f N := BD_c B5' (fr_refl [] σ5) g6 (by decide) (by decide)
      obtain ⟨σ9, τ9, c9, m9, B9, f9, g9⟩ := bt_1 B6 hN5 (d := d) (by omega)
      exact ⟨σ9, τ9, c9, m9, PG_B B9, fr_trans F5 (fr_sub f9 (by decide)), fr_trans M6 (fr_sub g9 (by decide)), fun z => by have := B9.1; omega⟩
  · have B4 := BD_R Q4.1 cb
    have R4 := Q4.1.1
    rw [cb_oov (by omega) cb (by omega) (F := fR_firstOne) (Or.inr ⟨rfl, rfl⟩), mb_oov (by omega) B4.2.2.1]
    simp only [Option.bind_some]
    rw [z1_ok _ (by decide)]
    obtain ⟨σ5, e5⟩ : ∃ x, x = ga_up σ4 fR_firstOne 0 0 0 := ⟨_, rfl⟩
    obtain ⟨τ6, e6⟩ : ∃ x, x = ga_up (ga_up τ4 fM_at 0 0 (w32 (τ4 fM_at 0 0 + 1))) fM_firstIsOne 0 0 0 := ⟨_, rfl⟩
    rw [← e5, ← e6]
    have f5 : fr [fR_firstOne] σ4 σ5 := by rw [e5]; exact fr_u (by decide)
    have g6 : fr [fM_at, fM_firstIsOne] τ4 τ6 := by rw [e6]; exact fr_trans (fr_u (by decide)) (fr_u (by decide))
    have B6 : BD σ5 τ6 f N := BD_c B4 f5 g6 (by decide) (by decide)
    obtain ⟨σ9, τ9, c9, m9, B9, f9, g9⟩ := bt_1 B6 hN5 (d := d) (by omega)
    exact ⟨σ9, τ9, c9, m9, PG_B B9, fr_trans F4 (fr_trans (fr_sub f5 (by decide)) (fr_sub f9 (by decide))), fr_trans M4 (fr_trans (fr_sub g6 (by decide)) (fr_sub g9 (by decide))), fun z => by have := B9.1; omega⟩

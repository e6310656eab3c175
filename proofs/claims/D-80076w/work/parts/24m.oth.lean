/-! other sentences, by sort -/
def stH (σ τ : ga_S) (f : Int) (N : Nat) : Prop := ENV σ τ f N ∧ PR σ τ f N ∧ JR σ τ ∧ σ fR_bad 0 0 = -1 ∧ σ fR_p 0 0 = 0 ∧ (σ fR_runs 0 0 = 0 ∧ τ fM_runs 0 0 = 0 ∧ σ fR_names 0 0 = 0) ∧ (σ fR_not 0 0 = 0 ∧ τ fM_isNot 0 0 = 0 ∧ σ fR_usually 0 0 = 0 ∧ τ fM_isUsually 0 0 = 0) ∧ σ fR_isValue 0 0 = 0 ∧ σ fR_placeSort 0 0 = 0
theorem stH_c {σ τ σ' τ' : ga_S} {f : Int} {N : Nat} (h : stH σ τ f N) {LC LM : List Nat} (h1 : fr LC σ σ') (h2 : fr LM τ τ') (hc : [fR_bad, fR_p, fR_runs, fR_names, fR_not, fR_usually, fR_isValue, fR_placeSort, fT_kinds].all (fun F => !(LC.contains F)) = true) (hm : [fM_isBad, fM_badAt, fM_at, fM_runs, fM_isNot, fM_isUsually, fM_token].all (fun F => !(LM.contains F)) = true) : stH σ' τ' f N := by
  obtain ⟨hE, hP, hJ, h4, h5, h6, h7, h8, h9⟩ := h
  have kk : σ' fT_kinds = σ fT_kinds := fr_no h1 hc (by decide)
  refine ⟨ENV_c hE kk (fr_no h2 hm (by decide)), PR_c hP (fr_no h1 hc (by decide)) (fr_no h1 hc (by decide)) (fr_no h2 hm (by decide)) (fr_no h2 hm (by decide)) (fr_no h2 hm (by decide)), JR_mv hJ (by rw [fr_no h1 hc (F := fR_runs) (by decide)]) (by rw [fr_no h2 hm (F := fM_runs) (by decide)]) kk (fun _ => ⟨h4, Or.inl (by rw [fr_no h1 hc (F := fR_p) (by decide)])⟩), ?_, ?_, ?_, ?_, ?_, ?_⟩
  · rw [fr_no h1 hc (F := fR_bad) (by decide)]; exact h4
  · rw [fr_no h1 hc (F := fR_p) (by decide)]; exact h5
  · rw [fr_no h1 hc (F := fR_runs) (by decide), fr_no h2 hm (F := fM_runs) (by decide), fr_no h1 hc (F := fR_names) (by decide)]; exact h6
  · rw [fr_no h1 hc (F := fR_not) (by decide), fr_no h2 hm (F := fM_isNot) (by decide), fr_no h1 hc (F := fR_usually) (by decide), fr_no h2 hm (F := fM_isUsually) (by decide)]; exact h7
  · rw [fr_no h1 hc (F := fR_isValue) (by decide)]; exact h8
  · rw [fr_no h1 hc (F := fR_placeSort) (by decide)]; exact h9
def osC : List Nat := fR_names :: fR_nameFrom :: fR_nameTo :: fR_verb :: fR_firstOne :: fR_secondOne :: fR_whatAt :: bsC
def osM : List Nat := fM_isAre :: fM_listFrom :: fM_listSize :: fM_firstIsOne :: fM_secondIsOne :: bsM
def osR (σ τ : ga_S) (f : Int) (N : Nat) : Prop := τ fM_sort 0 0 = σ fR_sort 0 0 ∧
  (((σ fR_sort 0 0 = 7 ∨ σ fR_sort 0 0 = 8) ∧ σ fR_runs 0 0 = 2 ∧ rr σ τ f 0 0 ∧ rr σ τ f 1 1 ∧ (σ fR_sort 0 0 = 8 → σ fT_kinds 0 0 = 11 ∧ σ fT_kinds 0 1 = 28 ∧ 6 ≤ (N : Int))) ∨
   (σ fR_sort 0 0 = 9 ∧ σ fR_names 0 0 = 1 ∧ nn σ τ f 0 1 ∧ rr σ τ f 0 0 ∧ τ fM_what 0 0 = f + σ fR_whatAt 0 0 ∧ 0 ≤ σ fR_whatAt 0 0 ∧ σ fR_whatAt 0 0 ≤ N ∧ σ fR_runFrom 0 0 ≤ σ fR_whatAt 0 0 ∧ (((σ fT_kinds 0 (σ fR_whatAt 0 0) = 1 ∨ σ fT_kinds 0 (σ fR_whatAt 0 0) = 2) ∧ σ fR_runs 0 0 = 1) ∨ (σ fR_runs 0 0 = 2 ∧ σ fR_runFrom 0 1 = σ fR_whatAt 0 0 ∧ rr σ τ f 1 2 ∧ (σ fR_runTo 0 1 = σ fR_p 0 0 ∨ σ fR_runTo 0 1 = N)))) ∨
   ((10 ≤ σ fR_sort 0 0 ∧ σ fR_sort 0 0 ≤ 16) ∧ 1 ≤ σ fR_names 0 0 ∧ (∀ k, 0 ≤ k → k < σ fR_names 0 0 → nn σ τ f k k) ∧ oN σ ∧ τ fM_listFrom 0 0 = 0 ∧ τ fM_listSize 0 0 = σ fR_names 0 0 ∧ ((σ fR_verb 0 0 = 13 ∧ τ fM_isAre 0 0 = 0) ∨ (σ fR_verb 0 0 = 14 ∧ τ fM_isAre 0 0 = 1)) ∧ ∃ p, beR σ τ f (σ fR_names 0 0) p ∧ ∀ k, 0 ≤ k → k < σ fR_names 0 0 → σ fR_nameTo 0 k ≤ p) ∨
   ((17 ≤ σ fR_sort 0 0 ∧ σ fR_sort 0 0 ≤ 19) ∧ σ fR_names 0 0 = 1 ∧ nn σ τ f 0 0 ∧ σ fR_runs 0 0 = 2 ∧ rr σ τ f 0 1 ∧ rr σ τ f 1 2 ∧ (σ fR_sort 0 0 = 18 → oC σ) ∧ (σ fR_sort 0 0 = 19 → (τ fM_firstIsOne 0 0 = σ fR_firstOne 0 0 ∧ (σ fR_firstOne 0 0 = 0 ∨ σ fR_firstOne 0 0 = 1)) ∧ (τ fM_secondIsOne 0 0 = σ fR_secondOne 0 0 ∧ (σ fR_secondOne 0 0 = 0 ∨ σ fR_secondOne 0 0 = 1)))) ∨
   (σ fR_sort 0 0 = 20 ∧ 1 ≤ (N : Int)))
def osA (σ τ : ga_S) (f : Int) (N : Nat) (x y : Option ga_R) : Prop := ∃ σ' τ', x = some (0, σ') ∧ y = some (0, τ') ∧ PG σ' τ' f N ∧ fr osC σ σ' ∧ fr osM τ τ' ∧ (σ' fR_bad 0 0 = -1 → τ' fM_isBad 0 0 = 0 → osR σ' τ' f N)
theorem osA_l {σ τ σ1 τ1 : ga_S} {f : Int} {N : Nat} {x y : Option ga_R} (h : osA σ1 τ1 f N x y) (g1 : fr osC σ σ1) (g : fr osM τ τ1) : osA σ τ f N x y := by
  obtain ⟨σ', τ', h1, h2, h3, h4, h5, h6⟩ := h
  exact ⟨σ', τ', h1, h2, h3, fr_trans g1 h4, fr_trans g h5, h6⟩
/-- the verb to .. means the .. relation -/
theorem os_7 {σ τ : ga_S} {f : Int} {N : Nat} (H : stH σ τ f N) {d e : Nat} (hd : 4 ≤ d) (he : 4 ≤ e) (hk : 2 ≤ (N : Int)) : osA σ τ f N (cSeq d [(0, 20), (1, 0), (0, 33), (0, 11), (1, 0), (0, 35)] (ga_up (ga_up σ fR_sort 0 0 7) fR_p 0 0 2) fun s => some (0, s)) (mSeq e [(0, 20), (1, 0), (0, 33), (0, 11), (1, 0), (0, 35)] (ga_up (ga_up τ fM_sort 0 0 7) fM_at 0 0 (w32 (τ fM_at 0 0 + 2))) fun s => some (0, s)) := by
  obtain ⟨hE, hP, hJ, hb, hp, hr, _⟩ := H
  have hf := hE.1
  have hN := hE.2.1
  have ok := PR_ok hP hb
  rw [w32_ok (by omega)]
  obtain ⟨σ1, e1⟩ : ∃ x, x = ga_up (ga_up σ fR_sort 0 0 7) fR_p 0 0 2 := ⟨_, rfl⟩
  obtain ⟨τ1, e2⟩ : ∃ x, x = ga_up (ga_up τ fM_sort 0 0 7) fM_at 0 0 (τ fM_at 0 0 + 2) := ⟨_, rfl⟩
  rw [← e1, ← e2]
  have f1 : fr [fR_sort, fR_p] σ σ1 := by rw [e1]; exact fr_trans (fr_u (by decide)) (fr_u (by decide))
  have g1 : fr [fM_sort, fM_at] τ τ1 := by rw [e2]; exact fr_trans (fr_u (by decide)) (fr_u (by decide))
  obtain ⟨E1, P1, J1⟩ := ST_mv hE hP hJ hb (n := 2) (by omega) (by omega) f1 g1 (by decide) (by decide) (by rw [e1, up_eq]; omega) (by rw [e2, up_eq])
  obtain ⟨σ2, τ2, c2, m2, Q, X⟩ := SEQ hd he [(0, 20), (1, 0), (0, 33), (0, 11), (1, 0), (0, 35)] (by decide) σ1 τ1 E1 P1 J1
  rw [c2, m2]
  refine ⟨σ2, τ2, rfl, rfl, PG_R Q.1 (fun _ _ => Q.2.1.2.2.1), fr_trans (fr_sub f1 (by decide)) (fr_sub Q.2.2.1 (by decide)), fr_trans (fr_sub g1 (by decide)) (fr_sub Q.2.2.2.1 (by decide)), fun z _ => ?_⟩
  obtain ⟨X1, X2, _, X3⟩ := X z
  have s2 : σ2 fR_sort 0 0 = 7 := by rw [Q.2.2.1 _ (by decide), e1, up_F (by decide), up_eq]
  have t2 : τ2 fM_sort 0 0 = 7 := by rw [Q.2.2.2.1 _ (by decide), e2, up_F (by decide), up_eq]
  rw [f1 _ (by decide), hr.1] at X1 X3
  rw [g1 _ (by decide), hr.2.1] at X2 X3
  exact ⟨by rw [t2, s2], Or.inl ⟨Or.inl s2, X1, X3 0 (by decide) (by decide), X3 1 (by decide) (by decide), fun z => by omega⟩⟩
/-- the plural of .. is .. -/
theorem os_8 {σ τ : ga_S} {f : Int} {N : Nat} (H : stH σ τ f N) {d e : Nat} (hd : 4 ≤ d) (he : 4 ≤ e) (hk : 2 ≤ (N : Int)) (k0 : σ fT_kinds 0 0 = 11) (k1 : σ fT_kinds 0 1 = 28) : osA σ τ f N ((c_r_take d (ga_up (ga_up σ fR_sort 0 0 8) fR_p 0 0 2) 16).bind fun q11 =>
            (c_r_name d q11.2).bind fun q12 =>
              (c_r_be d q12.2).bind fun q13 =>
                (c_r_run d q13.2).bind fun q14 =>
                  some (0, q14.2)) ((c_m_take e (ga_up (ga_up τ fM_sort 0 0 8) fM_at 0 0 (w32 ((τ fM_at 0 0) + 2))) 107).bind fun q9 =>
          (c_m_name0 e q9.2).bind fun q10 =>
            (c_m_be e q10.2).bind fun q11 =>
              (c_m_run e q11.2).bind fun q12 => some (0, q12.2)) := by
  obtain ⟨hE, hP, hJ, hb, hp, hr, _⟩ := H
  have hf := hE.1
  have hN := hE.2.1
  have ok := PR_ok hP hb
  rw [w32_ok (by omega)]
  obtain ⟨σ1, e1⟩ : ∃ x, x = ga_up (ga_up σ fR_sort 0 0 8) fR_p 0 0 2 := ⟨_, rfl⟩
  obtain ⟨τ1, e2⟩ : ∃ x, x = ga_up (ga_up τ fM_sort 0 0 8) fM_at 0 0 (τ fM_at 0 0 + 2) := ⟨_, rfl⟩
  rw [← e1, ← e2]
  have f1 : fr [fR_sort, fR_p] σ σ1 := by rw [e1]; exact fr_trans (fr_u (by decide)) (fr_u (by decide))
  have g1 : fr [fM_sort, fM_at] τ τ1 := by rw [e2]; exact fr_trans (fr_u (by decide)) (fr_u (by decide))
  obtain ⟨E1, P1, J1⟩ := ST_mv hE hP hJ hb (n := 2) (by omega) (by omega) f1 g1 (by decide) (by decide) (by rw [e1, up_eq]; omega) (by rw [e2, up_eq])
  obtain ⟨v2, σ2, τ2, c2, m2, Q2, f2, g2, X2⟩ := S_take E1 P1 J1 (d := 4) (by omega) (c := 16) (m := 107) (by decide) (by decide) (by decide) (by decide)
  have E2 := SQ_E Q2 E1
  obtain ⟨r3, σ3, τ3, c3, m3, Q3, G3⟩ := S_name E2 Q2.1 Q2.2.1 (d := 4) (by omega)
  have E3 := SQ_E Q3 E2
  obtain ⟨σ4, τ4, c4, m4, P4, J4, f4, g4, X4⟩ := P_be E3 Q3.1 Q3.2.1 (d := 4) (by omega)
  have E4 : ENV σ4 τ4 f N := ENV_c E3 (f4 _ (by decide)) (g4 _ (by decide))
  obtain ⟨r5, σ5, τ5, c5, m5, Q5, G5⟩ := S_run E4 P4 J4 (d := 4) (by omega)
  rw [show c_r_take d σ1 16 = some (v2, σ2) from am_mono c2 hd, show c_m_take e τ1 107 = some (0, τ2) from am_mono m2 he]
  simp only [Option.bind_some]
  rw [show c_r_name d σ2 = some (0, σ3) from am_mono c3 hd, show c_m_name0 e τ2 = some (r3, τ3) from am_mono m3 he]
  simp only [Option.bind_some]
  rw [show c_r_be d σ3 = some (0, σ4) from am_mono c4 hd, show c_m_be e τ3 = some (0, τ4) from am_mono m4 he]
  simp only [Option.bind_some]
  rw [show c_r_run d σ4 = some (0, σ5) from am_mono c5 hd, show c_m_run e τ4 = some (r5, τ5) from am_mono m5 he]
  simp only [Option.bind_some]
  refine ⟨σ5, τ5, rfl, rfl, PG_R Q5.1 (fun _ _ => Q5.2.1.2.2.1), fr_trans (fr_sub f1 (by decide)) (fr_trans (fr_sub f2 (by decide)) (fr_trans (fr_sub Q3.2.2.1 (by decide)) (fr_trans (fr_sub f4 (by decide)) (fr_sub Q5.2.2.1 (by decide))))), fr_trans (fr_sub g1 (by decide)) (fr_trans (fr_sub g2 (by decide)) (fr_trans (fr_sub Q3.2.2.2.1 (by decide)) (fr_trans (fr_sub g4 (by decide)) (fr_sub Q5.2.2.2.1 (by decide))))), fun z _ => ?_⟩
  obtain ⟨H1, H2, H3, H4, H5, H6⟩ := G5 z
  have z4 := (Q5.2.2.2.2.2.2.2 z).1
  have z3 := (X4 z4).1
  obtain ⟨I1, I2, I3, I4, I5, I6⟩ := G3 z3
  have i7 := I4.2.2.2.2.1
  have h7 := H4.2.2.2.2.1
  have p2 := (X2 (Q3.2.2.2.2.2.2.2 z3).1).2.2
  rw [show σ1 fR_p 0 0 = 2 by rw [e1, up_eq]] at p2
  have p4 := (X4 z4).2.1
  have p5 := Q5.1.1.2.1
  have n6 : 6 ≤ (N : Int) := by omega
  have kk : σ5 fT_kinds = σ fT_kinds := by rw [Q5.2.2.1 _ (by decide), f4 _ (by decide), Q3.2.2.1 _ (by decide), f2 _ (by decide), f1 _ (by decide)]
  rw [f2 _ (by decide), f1 _ (by decide), hr.1] at I2 I4
  rw [g2 _ (by decide), g1 _ (by decide), hr.2.1] at I1 I3 I4
  rw [f4 _ (by decide), I2] at H2 H4
  rw [g4 _ (by decide), I3] at H1 H3 H4
  have s5 : σ5 fR_sort 0 0 = 8 := by rw [Q5.2.2.1 _ (by decide), f4 _ (by decide), Q3.2.2.1 _ (by decide), f2 _ (by decide), e1, up_F (by decide), up_eq]
  have t5 : τ5 fM_sort 0 0 = 8 := by rw [Q5.2.2.2.1 _ (by decide), g4 _ (by decide), Q3.2.2.2.1 _ (by decide), g2 _ (by decide), e2, up_F (by decide), up_eq]
  have r4 : rr σ4 τ4 f 0 0 := rr_keep I4 (by omega) (rKeepC_eq (f4 _ (by decide)) (f4 _ (by decide))) (rKeep_eq (g4 _ (by decide)) (g4 _ (by decide)) (g4 _ (by decide))) (f4 _ (by decide))
  exact ⟨by rw [t5, s5], Or.inl ⟨Or.inr s5, by omega, rr_Q r4 (by rw [f4 _ (by decide)]; omega) Q5, H4, fun _ => ⟨by rw [kk]; exact k0, by rw [kk]; exact k1, n6⟩⟩⟩

/-! a sentence, on both sides -/
theorem mSeq_k (d : Nat) : ∀ (l : List (Nat × Int)) (τ : ga_S) (k : ga_S → Option ga_R), mSeq d l τ k = (mSeq d l τ (fun s => some ((0 : Int), s))).bind fun q => k q.2
  | [], τ, k => rfl
  | (0, c) :: l, τ, k => by
    show ((c_m_take d τ (cdM c)).bind fun q => mSeq d l q.2 k) = ((c_m_take d τ (cdM c)).bind fun q => mSeq d l q.2 (fun s => some ((0 : Int), s))).bind fun q => k q.2
    rw [Option.bind_assoc]
    congr 1
    funext q
    exact mSeq_k d l q.2 k
  | (1, c) :: l, τ, k => by
    show ((c_m_run d τ).bind fun q => mSeq d l q.2 k) = ((c_m_run d τ).bind fun q => mSeq d l q.2 (fun s => some ((0 : Int), s))).bind fun q => k q.2
    rw [Option.bind_assoc]
    congr 1
    funext q
    exact mSeq_k d l q.2 k
  | (2, c) :: l, τ, k => by
    show ((c_m_art d τ).bind fun q => mSeq d l q.2 k) = ((c_m_art d τ).bind fun q => mSeq d l q.2 (fun s => some ((0 : Int), s))).bind fun q => k q.2
    rw [Option.bind_assoc]
    congr 1
    funext q
    exact mSeq_k d l q.2 k
  | (n + 3, c) :: l, τ, k => by
    show ((c_m_name0 d τ).bind fun q => mSeq d l q.2 k) = ((c_m_name0 d τ).bind fun q => mSeq d l q.2 (fun s => some ((0 : Int), s))).bind fun q => k q.2
    rw [Option.bind_assoc]
    congr 1
    funext q
    exact mSeq_k d l q.2 k
def seC : List Nat := [fR_p, fR_bad, fR_names, fR_runs, fR_tests, fR_phrases, fR_not, fR_usually, fR_isValue, fR_placeSort, fR_sort, fR_whatAt, fR_runFrom, fR_runTo, fR_testFrom, fR_testTo, fR_phraseFrom, fR_phraseTo, fR_thingFrom, fR_thingTo, fR_isNot, fR_form, fR_propertyFrom, fR_propertyTo, fR_behindFrom, fR_placeFrom, fR_placeTo, fR_nameFrom, fR_nameTo, fR_verb, fR_firstOne, fR_secondOne]
def seM : List Nat := [fM_at, fM_isBad, fM_badAt, fM_runs, fM_runFrom, fM_runSize, fM_tCount, fM_tShown, fM_pCount, fM_isNot, fM_isUsually, fM_sort, fM_textAt, fM_thingSort, fM_thingRun, fM_thingAt, fM_what, fM_tFirst, fM_tNot, fM_tForm, fM_tThing, fM_tThingRun, fM_tRun, fM_tWhat, fM_tWay, fM_tOther, fM_tOtherRun, fM_tEnd, fM_pFirst, fM_pTest, fM_pWhat, fM_actingRun, fM_actingOther, fM_isAre, fM_listFrom, fM_listSize, fM_firstIsOne, fM_secondIsOne, fM_placeWay, fM_placeRun]
/-- how a sentence ends -/
def seZ (v : Int) (σ' τ' : ga_S) (f : Int) (N : Nat) : Prop := (v = 0 ∧ 0 ≤ σ' fR_bad 0 0 ∧ σ' fR_bad 0 0 ≤ N ∧ τ' fM_isBad 0 0 = 1 ∧ τ' fM_badAt 0 0 = f + σ' fR_bad 0 0) ∨ (v = 1 ∧ σ' fT_kinds 0 N = 3 ∧ σ' fR_bad 0 0 = -1 ∧ τ' fM_isBad 0 0 = 0 ∧ σ' fR_p 0 0 = N + 1 ∧ τ' fM_at 0 0 = f + N + 1 ∧ 2 * τ' fM_runs 0 0 ≤ 5001 ∧ seR σ' τ' f N)
def seA (σ τ : ga_S) (f : Int) (N : Nat) (x y : Option ga_R) : Prop := ∃ v σ' τ', x = some (v, σ') ∧ y = some (0, τ') ∧ fr seC σ σ' ∧ fr seM τ τ' ∧ seZ v σ' τ' f N
theorem seA_fin {σ τ σ1 τ1 : ga_S} {f : Int} {N : Nat} (hE : ENV σ τ f N) (hP : PG σ1 τ1 f N) (h1 : fr seC σ σ1) (h2 : fr seM τ τ1) (hR : σ1 fR_bad 0 0 = -1 → τ1 fM_isBad 0 0 = 0 → seR σ1 τ1 f N) {d : Nat} (hd : 3 ≤ d) : seA σ τ f N (r_shape_264 d σ1) (m_sentence_350 d τ1) := by
  have E1 : ENV σ1 τ1 f N := ENV_c hE (h1 _ (by decide)) (h2 _ (by decide))
  obtain ⟨v, σ', τ', c, m, f1, g1, Z⟩ := P_end E1 hP hd
  refine ⟨v, σ', τ', c, m, fr_trans h1 (fr_sub f1 (by decide)), fr_trans h2 (fr_sub g1 (by decide)), ?_⟩
  rcases Z with Z | ⟨z1, z2, z3, z4, z5, z6, z7, z8, z9, z10⟩
  · exact Or.inl Z
  · exact Or.inr ⟨z1, by rw [f1 _ (by decide)]; exact z2, z4, z6, z7, z8, z10, seR_f (hR z3 z5) f1 g1 z9⟩
/-- understand .. as .. -/
theorem se_1 {σ τ : ga_S} {f : Int} {N : Nat} (H : stH σ τ f N) (hN1 : 1 ≤ (N : Int)) {d : Nat} (hd : 5 ≤ d) : seA σ τ f N ((c_r_take d (ga_up (ga_up (ga_up σ fR_sort 0 0 1) fR_p 0 0 1) fR_whatAt 0 0 1) 2).bind fun q14 => (c_r_take d q14.2 43).bind fun q15 => (c_r_run d q15.2).bind fun q16 => r_shape_264 d q16.2) ((c_m_partOne d (ga_up τ fM_sort 0 0 1)).bind fun q8 => m_sentence_350 d q8.2) := by
  obtain ⟨hE, hP, hJ, hb, hp, hr, _⟩ := H
  have hf := hE.1
  have hN := hE.2.1
  have ok := PR_ok hP hb
  obtain ⟨d, rfl⟩ : ∃ e, d = e + 1 := ⟨d - 1, by omega⟩
  obtain ⟨σ1, e1⟩ : ∃ x, x = ga_up (ga_up (ga_up σ fR_sort 0 0 1) fR_p 0 0 1) fR_whatAt 0 0 1 := ⟨_, rfl⟩
  obtain ⟨τ1, e2⟩ : ∃ x, x = ga_up (ga_up τ fM_sort 0 0 1) fM_at 0 0 (τ fM_at 0 0 + 1) := ⟨_, rfl⟩
  have f1 : fr [fR_sort, fR_p, fR_whatAt] σ σ1 := by rw [e1]; exact fr_trans (fr_trans (fr_u (by decide)) (fr_u (by decide))) (fr_u (by decide))
  have g1 : fr [fM_sort, fM_at] τ τ1 := by rw [e2]; exact fr_trans (fr_u (by decide)) (fr_u (by decide))
  have p1 : σ1 fR_p 0 0 = 1 := by rw [e1, up_F (by decide), up_eq]
  have w1 : σ1 fR_whatAt 0 0 = 1 := by rw [e1, up_eq]
  obtain ⟨E1, P1, J1⟩ := ST_mv hE hP hJ hb (n := 1) (by omega) (by omega) f1 g1 (by decide) (by decide) (by omega) (by rw [e2, up_eq])
  obtain ⟨v2, σ2, τ2, c2, m2, Q2, f2, g2, X2⟩ := S_take E1 P1 J1 (d := d) (by omega) (c := 2) (m := 5) (by decide) (by decide) (by decide) (by decide)
  obtain ⟨τ3, e3⟩ : ∃ x, x = ga_up τ2 fM_textAt 0 0 (τ2 fM_at 0 0 - 1) := ⟨_, rfl⟩
  have g3 : fr [fM_textAt] τ2 τ3 := by rw [e3]; exact fr_u (by decide)
  have E2 := SQ_E Q2 E1
  have E3 : ENV σ2 τ3 f N := ENV_c E2 rfl (g3 _ (by decide))
  have P3 : PR σ2 τ3 f N := PR_c Q2.1 rfl rfl (g3 _ (by decide)) (g3 _ (by decide)) (g3 _ (by decide))
  have J3 : JR σ2 τ3 := JR_mv Q2.2.1 rfl (by rw [g3 _ (by decide)]) rfl (fun z => ⟨z, Or.inl rfl⟩)
  obtain ⟨v4, σ4, τ4, c4, m4, Q4, f4, g4, X4⟩ := S_take E3 P3 J3 (d := d) (by omega) (c := 43) (m := 134) (by decide) (by decide) (by decide) (by decide)
  have E4 := SQ_E Q4 E3
  obtain ⟨r5, σ5, τ5, c5, m5, Q5, G5⟩ := S_run E4 Q4.1 Q4.2.1 (d := d) (by omega)
  have R2 := Q2.1.1
  rw [← e1, show c_r_take (d + 1) σ1 2 = some (v2, σ2) from am_mono c2 (by omega), e_m_partOne, up_F (F' := fM_at) (by decide), w32_ok (by omega), ← e2, m2]
  simp only [Option.bind_some]
  rw [show c_r_take (d + 1) σ2 43 = some (v4, σ4) from am_mono c4 (by omega), w32_ok (by omega), ← e3, m4]
  simp only [Option.bind_some]
  rw [show c_r_run (d + 1) σ4 = some (0, σ5) from am_mono c5 (by omega), m5]
  simp only [Option.bind_some]
  refine seA_fin hE (PG_R Q5.1 (fun _ _ => Q5.2.1.2.2.1)) (fr_trans (fr_sub f1 (by decide)) (fr_trans (fr_sub f2 (by decide)) (fr_trans (fr_sub f4 (by decide)) (fr_sub Q5.2.2.1 (by decide))))) (fr_trans (fr_sub g1 (by decide)) (fr_trans (fr_sub g2 (by decide)) (fr_trans (fr_sub g3 (by decide)) (fr_trans (fr_sub g4 (by decide)) (fr_sub Q5.2.2.2.1 (by decide)))))) (fun z _ => ?_) (by omega)
  obtain ⟨G1, G2, G3, G4, _⟩ := G5 z
  have z4 := (Q5.2.2.2.2.2.2.2 z).1
  have z2 := (X4 z4).1
  obtain ⟨y1, y2, y3⟩ := X2 z2
  rw [p1] at y2 y3
  rw [f4 _ (by decide), f2 _ (by decide), f1 _ (by decide), hr.1] at G2 G4
  rw [g4 _ (by decide), g3 _ (by decide), g2 _ (by decide), g1 _ (by decide), hr.2.1] at G1 G3 G4
  have ok2 := PR_ok Q2.1 z2
  have s5 : σ5 fR_sort 0 0 = 1 := by rw [Q5.2.2.1 _ (by decide), f4 _ (by decide), f2 _ (by decide), e1, up_F (by decide), up_F (by decide), up_eq]
  have t5 : τ5 fM_sort 0 0 = 1 := by rw [Q5.2.2.2.1 _ (by decide), g4 _ (by decide), g3 _ (by decide), g2 _ (by decide), e2, up_F (by decide), up_eq]
  have w5 : σ5 fR_whatAt 0 0 = 1 := by rw [Q5.2.2.1 _ (by decide), f4 _ (by decide), f2 _ (by decide)]; exact w1
  have x5 : τ5 fM_textAt 0 0 = f + 1 := by rw [Q5.2.2.2.1 _ (by decide), g4 _ (by decide), e3, up_eq]; omega
  have K5 : σ5 fT_kinds = σ1 fT_kinds := by rw [Q5.2.2.1 _ (by decide), f4 _ (by decide), f2 _ (by decide)]
  exact ⟨by rw [t5, s5], Or.inl ⟨s5, by omega, by omega, by rw [x5, w5], by rw [w5, K5]; exact y2, by omega, G4⟩⟩
/-- a definition -/
theorem se_2 {σ τ : ga_S} {f : Int} {N : Nat} {pl : Int → Int} (H : stH σ τ f N) (hL : LEN pl (σ fT_kinds 0) N) (ht : σ fR_tests 0 0 = 0 ∧ τ fM_tCount 0 0 = 0) (hN1 : 1 ≤ (N : Int)) {d : Nat} (hd : 11 ≤ d) : seA σ τ f N (cSeq d [(0, 6), (2, 0), (1, 0), (0, 13), (1, 0), (0, 45)] (ga_up (ga_up σ fR_sort 0 0 2) fR_p 0 0 1) fun s => (c_r_testsAhead d s 3).bind fun q13 => r_shape_264 d q13.2) ((c_m_partTwo d (ga_up τ fM_sort 0 0 2)).bind fun q7 => m_sentence_350 d q7.2) := by
  obtain ⟨hE, hP, hJ, hb, hp, hr, _⟩ := H
  have hf := hE.1
  have hN := hE.2.1
  have ok := PR_ok hP hb
  obtain ⟨d, rfl⟩ : ∃ e, d = e + 1 := ⟨d - 1, by omega⟩
  obtain ⟨σ1, e1⟩ : ∃ x, x = ga_up (ga_up σ fR_sort 0 0 2) fR_p 0 0 1 := ⟨_, rfl⟩
  obtain ⟨τ1, e2⟩ : ∃ x, x = ga_up (ga_up τ fM_sort 0 0 2) fM_at 0 0 (τ fM_at 0 0 + 1) := ⟨_, rfl⟩
  have f1 : fr [fR_sort, fR_p] σ σ1 := by rw [e1]; exact fr_trans (fr_u (by decide)) (fr_u (by decide))
  have g1 : fr [fM_sort, fM_at] τ τ1 := by rw [e2]; exact fr_trans (fr_u (by decide)) (fr_u (by decide))
  have p1 : σ1 fR_p 0 0 = 1 := by rw [e1, up_eq]
  obtain ⟨E1, P1, J1⟩ := ST_mv hE hP hJ hb (n := 1) (by omega) (by omega) f1 g1 (by decide) (by decide) (by omega) (by rw [e2, up_eq])
  obtain ⟨σ2, τ2, c2, m2, Q2, X2⟩ := SEQ (d := d + 1) (e := d) (by omega) (by omega) [(0, 6), (2, 0), (1, 0), (0, 13), (1, 0), (0, 45)] (by decide) σ1 τ1 E1 P1 J1
  have E2 := SQ_E Q2 E1
  have K2 : σ2 fT_kinds = σ fT_kinds := (Q2.2.2.1 _ (by decide)).trans (f1 _ (by decide))
  have t2 : τ2 fM_tCount 0 0 = 0 := by rw [Q2.2.2.2.1 _ (by decide), g1 _ (by decide)]; exact ht.2
  have t2' : σ2 fR_tests 0 0 = 0 := by rw [Q2.2.2.1 _ (by decide), f1 _ (by decide)]; exact ht.1
  obtain ⟨σ3, τ3, c3, m3, X⟩ := P_tests (pl := pl) (c := 0) (by decide) E2 Q2.1 Q2.2.1 (by rw [t2]; omega) (by rw [K2]; exact hL) (fun z => by
    have ok2 := PR_ok Q2.1 z
    have l0 := LEN_le hL (a := 0) (b := σ2 fR_p 0 0) (Int.le_refl _) ok2.2.1 ok2.2.2.1
    have l00 := hL.1
    exact ⟨by rw [t2]; omega, by rw [t2, t2']⟩) (d := d) (by omega) 3
  obtain ⟨Y1, Y2, Y3, Y4, Y5, Y6, Y7, Y8, Y9, Y10, Y11⟩ := X
  have mm : c_m_partTwo (d + 1) (ga_up τ fM_sort 0 0 2) = some (0, τ3) := by
    rw [e_m_partTwo, up_F (F' := fM_at) (by decide), w32_ok (by omega), ← e2]
    have := m2 (fun s => (c_m_tests d s).bind fun q7 => some (0, q7.2))
    rw [m3] at this
    exact this
  rw [← e1, c2, mm, show c_r_testsAhead (d + 1) σ2 3 = some (0, σ3) from am_mono c3 (by omega)]
  simp only [Option.bind_some]
  refine seA_fin hE (PG_R Y1 (fun _ _ => Y2.2.2.1)) (fr_trans (fr_sub f1 (by decide)) (fr_trans (fr_sub Q2.2.2.1 (by decide)) (fr_sub Y3 (by decide)))) (fr_trans (fr_sub g1 (by decide)) (fr_trans (fr_sub Q2.2.2.2.1 (by decide)) (fr_sub Y4 (by decide)))) (fun z _ => ?_) (by omega)
  obtain ⟨Z1, Z2, Z3, Z4, _, Z5⟩ := Y11 z
  have s3 : σ3 fR_sort 0 0 = 2 := by rw [Y3 _ (by decide), Q2.2.2.1 _ (by decide), e1, up_F (by decide), up_eq]
  have u3 : τ3 fM_sort 0 0 = 2 := by rw [Y4 _ (by decide), Q2.2.2.2.1 _ (by decide), e2, up_F (by decide), up_eq]
  have z2 : σ2 fR_bad 0 0 = -1 := by
    by_cases cb : σ2 fR_bad 0 0 = -1
    · exact cb
    · have : c_r_testsAhead d σ2 3 = some (0, σ2) := by
        obtain ⟨d, rfl⟩ : ∃ e, d = e + 1 := ⟨d - 1, by omega⟩
        rw [e_r_testsAhead, if_neg cb, e_r_testsAhead_13, e_r_testsAhead_14, if_pos rfl]
      rw [this] at c3
      injection c3 with c3; injection c3 with _ c3
      rw [c3]; exact z
  obtain ⟨A1, A2, _, A3⟩ := X2 z2
  rw [f1 _ (by decide), hr.1] at A1 A3
  rw [g1 _ (by decide), hr.2.1] at A2 A3
  have A1' : σ2 fR_runs 0 0 = 2 := A1
  have K3 : σ3 fT_kinds = σ2 fT_kinds := Y3 _ (by decide)
  refine ⟨by rw [u3, s3], Or.inr (Or.inl ⟨s3, by rw [Y5]; exact A1', rr_keep (A3 0 (by decide) (by decide)) (by rw [A1']; decide) Y6 Y7 K3, rr_keep (A3 1 (by decide) (by decide)) (by rw [A1']; decide) Y6 Y7 K3, ⟨by omega, by omega, fun i h1 h2 => ?_⟩, by omega⟩)⟩
  rw [K3, Y5]
  exact (Z5 i (by omega) h2).1

theorem ph_row {τ τ1 : ga_S} {f a : Int} (hτ : τ fM_at 0 0 = f + a) (h : fr [fM_at, fM_pWhat, fM_tWhat] (ph0 τ) τ1) : τ1 fM_pTest 0 (τ fM_pCount 0 0) = τ fM_tCount 0 0 ∧ τ1 fM_pFirst 0 (τ fM_pCount 0 0) = f + a := by
  rw [h _ (by decide), h _ (by decide)]
  unfold ph0
  refine ⟨?_, ?_⟩
  · rw [up_F (by decide), up_eq]
  · rw [up_F (by decide), up_F (by decide), up_eq]; exact hτ
theorem tsX_Q {σ σ' τ τ' : ga_S} {f : Int} {N : Nat} {a b : Int} (h : tsX σ σ' τ τ' f N a b) : tsQ σ σ' τ τ' f N (τ fM_tCount 0 0) := by
  obtain ⟨a1, a2, a3, a4, a5, a6, a7, a8, _⟩ := h
  exact ⟨a1, a2, a3, a4, a5, a6, a7, a8⟩
theorem ph_now {σ τ : ga_S} {f : Int} {N : Nat} {a b : Int} (H : phH σ τ f N a b) {d : Nat} (hd : 8 ≤ d) (hc : σ fT_kinds 0 a = 53) : phA σ τ f N a b d := by
  obtain ⟨B1, B2, B3, B4, B5, B6⟩ := ph_begin H (d := d) (by omega)
  obtain ⟨K1, K2, K3, K4, K5, K6, K7⟩ := ph_key H hc (by omega) 1
  obtain ⟨hE, hb, ha, hT, hbN, hτ, hJ, hj, hi⟩ := H
  have hf := hE.1
  have hN := hE.2.1
  have hN5 := hE.2.2.1
  have h0 := ph0_fr τ
  have hab := K4.1
  obtain ⟨τ1, eτ1⟩ : ∃ x, x = ga_up (ga_up (ph0 τ) fM_at 0 0 (f + a + 1)) fM_pWhat 0 (τ fM_pCount 0 0) 1 := ⟨_, rfl⟩
  rw [← eτ1] at K1 K2 K3 K5 K6 K7
  have j1 : τ1 fM_tCount 0 0 = τ fM_tCount 0 0 := by rw [K5 _ (by decide), B6]
  have r1 : τ1 fM_runs 0 0 = τ fM_runs 0 0 := by rw [K5 _ (by decide), h0 _ (by decide)]
  have E0 : ENV (ga_up σ fR_p 0 0 a) τ1 f N := ENV_c hE (up_F (by decide) ..) ((K5 _ (by decide)).trans (h0 _ (by decide)))
  have kk : (ga_up σ fR_p 0 0 a) fT_kinds = σ fT_kinds := up_F (by decide) ..
  obtain ⟨σ2, τ2, e1, e2, X, _⟩ := P_test E0 (by rw [up_F (by decide)]; exact hb) (a := a + 1) (b := b) (now := 1) (by omega) (by rw [kk]; exact K4) hbN (Or.inr rfl) ⟨by rw [K5 _ (by decide), h0 _ (by decide)]; exact hτ.1, by rw [eτ1, up_F (by decide), up_eq]; omega⟩ (by rw [up_F (F' := fR_runs) (by decide), r1]; exact ⟨hJ.1, hJ.2.1, by omega, fun _ => by omega⟩) (by rw [j1]; exact hj) (d := d) (by omega)
  have Q := tsQ_u (tsX_Q X)
  obtain ⟨x1, x2, x3, x4, x5, x6, x7, x8, x9, x10⟩ := X
  rw [j1] at Q x9 x10
  have k2 : σ2 fT_kinds = σ fT_kinds := (x3 _ (by decide)).trans kk
  have rowE := ph_row hτ.2 K5
  refine ph_wrap hE hb hbN hτ hJ.1 hi hj (d := d) (by omega) (σ1 := ga_up σ fR_p 0 0 a) (σ2 := σ2) (τ1 := τ1) (τ2 := τ2) (τ3 := τ2) (fr_u (by decide)) K5 K6 K7 Q (fr_refl _ _) (Or.inl x9) (fun z => ?_) (fun z zb => ?_) ?_ ?_
  · rw [(x10 z).1, k2]
    exact ⟨Int.le_refl _, hT.2.1, fun q h1 h2 => by omega⟩
  · refine ⟨?_, ?_, Or.inr (Or.inl ⟨by rw [k2]; exact hc, ?_, (x10 z).2⟩)⟩
    · rw [x4 _ (by decide)]; exact rowE.1
    · rw [x4 _ (by decide)]; exact rowE.2
    · rw [x4 _ (by decide), eτ1, up_eq]
  · rw [e_r_phraseShape, if_pos hb, ck_ok _ B3, nn_ok _ B4.1, B1]
    simp only [Option.bind_some]
    rw [if_neg (by omega), if_pos hc, w32_ok (by omega), e1]
    rfl
  · rw [e_m_phrase, ck_ok _ hi, ck_ok _ hi, ck_ok _ hj]
    show ((c_m_look d (ph0 τ)).bind _) = _
    rw [B2]
    simp only [Option.bind_some]
    rw [hc, if_neg (by decide), if_pos (by decide), ck_ok _ hi, B5, w32_ok (x := f + a + 1) (by omega), ← eτ1, e2]
    rfl
theorem ph_move {σ τ : ga_S} {f : Int} {N : Nat} {a b : Int} (H : phH σ τ f N a b) {d : Nat} (hd : 8 ≤ d) (hc : σ fT_kinds 0 a = 54) : phA σ τ f N a b d := by
  obtain ⟨B1, B2, B3, B4, B5, B6⟩ := ph_begin H (d := d) (by omega)
  obtain ⟨K1, K2, K3, K4, K5, K6, K7⟩ := ph_key H hc (by omega) 2
  obtain ⟨hE, hb, ha, hT, hbN, hτ, hJ, hj, hi⟩ := H
  have hf := hE.1
  have hN := hE.2.1
  have hN5 := hE.2.2.1
  obtain ⟨j, ej⟩ : ∃ j, j = τ fM_tCount 0 0 := ⟨_, rfl⟩
  obtain ⟨σ1, eσ1⟩ : ∃ x, x = ga_up σ fR_p 0 0 (a + 1) := ⟨_, rfl⟩
  obtain ⟨τ1, eτ1⟩ : ∃ x, x = ga_up (ga_up (ph0 τ) fM_at 0 0 (f + a + 1)) fM_pWhat 0 (τ fM_pCount 0 0) 2 := ⟨_, rfl⟩
  rw [← eσ1, ← eτ1] at K1 K2 K3
  rw [← eτ1] at K5 K6 K7
  have p1 : σ1 fR_p 0 0 = a + 1 := by rw [eσ1, up_eq]
  have k1 : σ1 fT_kinds = σ fT_kinds := by rw [eσ1, up_F (by decide)]
  have j1 : τ1 fM_tCount 0 0 = j := by rw [K5 _ (by decide), B6, ej]
  have rowE := ph_row hτ.2 K5
  -- what is moved
  obtain ⟨σ2, τ2, a1, a2, Q2, a3, a4, a5, a6⟩ := T_thing K3 K1 K2 (d := d) (by omega) (by rw [j1, ej]; exact hj)
  rw [j1] at Q2 a6
  have E2 := tsQ_E Q2 K3
  have k2 : σ2 fT_kinds = σ fT_kinds := (a4 _ (by decide)).trans k1
  have Q3 : tsQ σ2 (ga_up (ga_up σ2 fR_placeFrom 0 0 (σ2 fR_thingFrom 0 0)) fR_placeTo 0 0 (σ2 fR_thingTo 0 0)) τ2 τ2 f N j := tsQ_up Q2.1 Q2.2.1 (LC := [fR_placeFrom, fR_placeTo]) (LM := []) (fr_trans (fr_u (by decide)) (fr_u (by decide))) (fr_refl _ _) (by decide) (by decide) (tKeep_refl _ _)
  obtain ⟨σ3, eσ3⟩ : ∃ x, x = ga_up (ga_up σ2 fR_placeFrom 0 0 (σ2 fR_thingFrom 0 0)) fR_placeTo 0 0 (σ2 fR_thingTo 0 0) := ⟨_, rfl⟩
  rw [← eσ3] at Q3
  have E3 := tsQ_E Q3 E2
  have p3 : σ3 fR_p = σ2 fR_p := by rw [eσ3, up_F (by decide), up_F (by decide)]
  have b3 : σ3 fR_bad = σ2 fR_bad := by rw [eσ3, up_F (by decide), up_F (by decide)]
  have k3 : σ3 fT_kinds = σ fT_kinds := by rw [eσ3, up_F (by decide), up_F (by decide)]; exact k2
  -- to
  obtain ⟨v4, σ4, τ4, c1, c2, Q4, c4, c5, c6⟩ := U_take E3 Q3.1 Q3.2.1 (d := d) (by omega) (c := 20) (m := 111) (by decide) (by omega) (by omega) (by omega) j
  have E4 := uQ_E Q4 E3
  have k4 : σ4 fT_kinds = σ fT_kinds := (c4 _ (by decide)).trans k3
  -- where
  obtain ⟨σ5, τ5, g1, g2, hP⟩ := P_thing E4 Q4.1 Q4.2.1 (d := d) (by omega)
  have Q5 := thP_Q (j := j) hP
  obtain ⟨y1, y2, y3, y4, y5, y6, y7, y8⟩ := hP
  have k5 : σ5 fT_kinds = σ fT_kinds := (y3 _ (by decide)).trans k4
  have j2 : τ2 fM_tCount 0 0 = j := by rw [a3]; exact j1
  have j5 : τ5 fM_tCount 0 0 = j := by rw [y4 _ (by decide), c5 _ (by decide)]; exact j2
  obtain ⟨τ6, eτ6⟩ : ∃ x, x = ga_up (ga_up τ5 fM_tOther 0 j (w32 (w32 (τ5 fM_thingSort 0 0 * 10000) + τ5 fM_thingAt 0 0))) fM_tOtherRun 0 j (τ5 fM_thingRun 0 0) := ⟨_, rfl⟩
  have Q6 : tsQ σ5 σ5 τ5 τ6 f N j := by
    rw [eτ6]
    exact tsQ_up y1 y2 (LC := []) (LM := [fM_tOther, fM_tOtherRun]) (fr_refl _ _) (fr_trans (fr_u (by decide)) (fr_u (by decide))) (by decide) (by decide) (tKeep_trans tKeep_u tKeep_u)
  have Qall : uQ σ1 σ5 τ1 τ6 f N j := uQ_trans (tsQ_u Q2) (uQ_trans (tsQ_u Q3) (uQ_trans Q4 (uQ_trans (tsQ_u Q5) (tsQ_u Q6))))
  rw [ej] at Qall
  have j6 : τ6 fM_tCount 0 0 = j := by rw [eτ6, up_F (by decide), up_F (by decide)]; exact j5
  refine ph_wrap hE hb hbN hτ hJ.1 hi hj (d := d) (by omega) (σ1 := σ1) (σ2 := σ5) (τ1 := τ1) (τ2 := τ6) (τ3 := ga_up τ6 fM_tCount 0 0 (τ fM_tCount 0 0 + 1)) (by rw [eσ1]; exact fr_u (by decide)) K5 K6 K7 Qall (fr_u (by decide)) (Or.inl (up_eq ..)) (fun z => ?_) (fun z zb => ?_) ?_ ?_
  · obtain ⟨z4, z5, z6, z7⟩ := y8 z
    obtain ⟨z3, z8, z9⟩ := c6 z4
    rw [b3] at z3
    obtain ⟨w1, w2, w3, w4, w5, w6⟩ := a6 z3
    rw [p3] at z8 z9
    rw [k3] at z8
    have no := thR_no z7
    rw [k5] at no ⊢
    rw [k1, p1] at w5
    rw [p1] at w4
    refine toT_mv K4 (by have := z7.1; omega) (fun q h1 h2 => ?_)
    by_cases c : q < σ2 fR_p 0 0
    · exact (w5 q h1 c).2 1
    · by_cases c' : q = σ2 fR_p 0 0
      · rw [c', z8]; unfold endT; omega
      · exact (no q (by omega) h2).2 1
  · obtain ⟨z4, z5, z6, z7⟩ := y8 z
    obtain ⟨z3, z8, z9⟩ := c6 z4
    rw [b3] at z3
    obtain ⟨w1, w2, w3, w4, w5, w6⟩ := a6 z3
    have st := thR_st z7
    have hp5 := y1.1
    have hp4 := Q4.1.1
    have kR : rKeep τ2 τ6 := rKeep_trans Q3.2.2.2.2.2.2.1 (rKeep_trans Q4.2.2.2.2.2.2.1 (rKeep_trans Q5.2.2.2.2.2.2.1 Q6.2.2.2.2.2.2.1))
    rw [← ej] at rowE ⊢
    refine ⟨?_, ?_, Or.inr (Or.inr (Or.inl ⟨by rw [k5]; exact hc, ?_, ?_, ?_, ?_, ?_⟩))⟩
    · rw [eτ6, up_F (by decide), up_F (by decide), y4 _ (by decide), c5 _ (by decide), a5 _ (by decide)]; exact rowE.1
    · rw [eτ6, up_F (by decide), up_F (by decide), y4 _ (by decide), c5 _ (by decide), a5 _ (by decide)]; exact rowE.2
    · rw [eτ6, up_F (by decide), up_F (by decide), y4 _ (by decide), c5 _ (by decide), a5 _ (by decide), eτ1, up_eq]
    · have q1 : σ5 fR_placeFrom 0 0 = σ1 fR_p 0 0 := by rw [y3 _ (by decide), c4 _ (by decide), eσ3, up_F (by decide), up_eq]; exact w2
      have q2 : σ5 fR_placeTo 0 0 = σ2 fR_p 0 0 := by rw [y3 _ (by decide), c4 _ (by decide), eσ3, up_eq]; exact w3
      have q3 : τ6 fM_tThing 0 j = τ2 fM_tThing 0 j := by rw [eτ6, up_F (by decide), up_F (by decide), y4 _ (by decide), c5 _ (by decide)]
      have q4 : τ6 fM_tThingRun 0 j = τ2 fM_tThingRun 0 j := by rw [eτ6, up_F (by decide), up_F (by decide), y4 _ (by decide), c5 _ (by decide)]
      rw [q1, q2, q3, q4]
      exact thE_keep w6 kR (k5.trans k2.symm)
    · rw [z5, z6]
      refine thE_keep (σ := σ5) (τ := τ5) ⟨τ5 fM_thingSort 0 0, τ5 fM_thingAt 0 0, ?_, by omega, by omega, ?_⟩ Q6.2.2.2.2.2.2.1 rfl
      · rw [eτ6, up_F (by decide), up_eq, w32_ok (x := τ5 fM_thingSort 0 0 * 10000) (by omega), w32_ok (by omega)]
      · rw [eτ6, up_eq]; exact z7
    · have q1 : σ5 fR_placeFrom 0 0 = σ1 fR_p 0 0 := by rw [y3 _ (by decide), c4 _ (by decide), eσ3, up_F (by decide), up_eq]; exact w2
      have q2 : σ5 fR_placeTo 0 0 = σ2 fR_p 0 0 := by rw [y3 _ (by decide), c4 _ (by decide), eσ3, up_eq]; exact w3
      rw [q1, q2, p1]; rw [p3] at z9; have := z7.1; omega
    · rw [z5, z6]; rw [p3] at z9; rw [p1] at w4; omega
  · rw [e_r_phraseShape, if_pos hb, ck_ok _ B3, nn_ok _ B4.1, B1]
    simp only [Option.bind_some]
    rw [if_neg (by omega), if_neg (by omega), if_pos hc, up_eq, up_up, w32_ok (by omega), ← eσ1, a1]
    simp only [Option.bind_some]
    rw [← eσ3, c1]
    simp only [Option.bind_some]
    rw [g1]
    rfl
  · rw [e_m_phrase, ck_ok _ hi, ck_ok _ hi, ck_ok _ hj]
    show ((c_m_look d (ph0 τ)).bind _) = _
    rw [B2]
    simp only [Option.bind_some]
    rw [hc, if_neg (by decide), if_neg (by decide), if_pos (by decide), ck_ok _ hi, B5, w32_ok (x := f + a + 1) (by omega), ← eτ1, a2]
    simp only [Option.bind_some]
    rw [c2]
    simp only [Option.bind_some]
    rw [g2]
    simp only [Option.bind_some]
    rw [j5, ck_ok _ (by omega), ck_ok _ (by omega), ← eτ6, ← ej, w32_ok (x := j + 1) (by omega)]

/-- more, less of a property -/
theorem ph_more {σ τ : ga_S} {f : Int} {N : Nat} {a b : Int} (H : phH σ τ f N a b) {d : Nat} (hd : 8 ≤ d) {c w : Int} (hc : σ fT_kinds 0 a = c) (hcw : c = 55 ∧ w = 3 ∨ c = 56 ∧ w = 4) : phA σ τ f N a b d := by
  obtain ⟨B1, B2, B3, B4, B5, B6⟩ := ph_begin H (d := d) (by omega)
  obtain ⟨K1, K2, K3, K4, K5, K6, K7⟩ := ph_key H hc (by omega) w
  obtain ⟨hE, hb, ha, hT, hbN, hτ, hJ, hj, hi⟩ := H
  have hf := hE.1
  have hN := hE.2.1
  have hN5 := hE.2.2.1
  obtain ⟨e, rfl⟩ : ∃ e, d = e + 1 := ⟨d - 1, by omega⟩
  obtain ⟨j, ej⟩ : ∃ j, j = τ fM_tCount 0 0 := ⟨_, rfl⟩
  obtain ⟨σ1, eσ1⟩ : ∃ x, x = ga_up σ fR_p 0 0 (a + 1) := ⟨_, rfl⟩
  obtain ⟨τ1, eτ1⟩ : ∃ x, x = ga_up (ga_up (ph0 τ) fM_at 0 0 (f + a + 1)) fM_pWhat 0 (τ fM_pCount 0 0) w := ⟨_, rfl⟩
  rw [← eσ1, ← eτ1] at K1 K2 K3
  rw [← eτ1] at K5 K6 K7
  have p1 : σ1 fR_p 0 0 = a + 1 := by rw [eσ1, up_eq]
  have k1 : σ1 fT_kinds = σ fT_kinds := by rw [eσ1, up_F (by decide)]
  have j1 : τ1 fM_tCount 0 0 = j := by rw [K5 _ (by decide), B6, ej]
  have rowE := ph_row hτ.2 K5
  have hjj : 0 ≤ j ∧ j < 1700 := by rw [ej]; exact hj
  -- the
  obtain ⟨v2, σ2, τ2, a1, a2, Q2, a4, a5, a6⟩ := U_take K3 K1 K2 (d := e) (by omega) (c := 11) (m := 102) (by decide) (by omega) (by omega) (by omega) j
  have E2 := uQ_E Q2 K3
  have k2 : σ2 fT_kinds = σ fT_kinds := (a4 _ (by decide)).trans k1
  obtain ⟨σ3, eσ3⟩ : ∃ x, x = ga_up σ2 fR_propertyFrom 0 0 (σ2 fR_p 0 0) := ⟨_, rfl⟩
  have Q3 : uQ σ2 σ3 τ2 τ2 f N j := by rw [eσ3]; exact U_up Q2.1 Q2.2.1 (LC := [fR_propertyFrom]) (LM := []) (fr_u (by decide)) (fr_refl _ _) (by decide) (by decide) (tKeep_refl _ _)
  have E3 := uQ_E Q3 E2
  have p3 : σ3 fR_p = σ2 fR_p := by rw [eσ3, up_F (by decide)]
  have b3 : σ3 fR_bad = σ2 fR_bad := by rw [eσ3, up_F (by decide)]
  have k3 : σ3 fT_kinds = σ fT_kinds := by rw [eσ3, up_F (by decide)]; exact k2
  -- its run
  obtain ⟨r, σ4, τ4, b1, b2, Q4, b4, b5, b6⟩ := T_runU E3 Q3.1 Q3.2.1 (d := e) (by omega) j
  have E4 := uQ_E Q4 E3
  have k4 : σ4 fT_kinds = σ fT_kinds := (b4 _ (by decide)).trans k3
  obtain ⟨σ5, eσ5⟩ : ∃ x, x = ga_up σ4 fR_propertyTo 0 0 (σ4 fR_p 0 0) := ⟨_, rfl⟩
  have Q5 : uQ σ4 σ5 τ4 (ga_up τ4 fM_tRun 0 j r) f N j := by rw [eσ5]; exact U_up Q4.1 Q4.2.1 (LC := [fR_propertyTo]) (LM := [fM_tRun]) (fr_u (by decide)) (fr_u (by decide)) (by decide) (by decide) tKeep_u
  have E5 := uQ_E Q5 E4
  have p5 : σ5 fR_p = σ4 fR_p := by rw [eσ5, up_F (by decide)]
  have b5' : σ5 fR_bad = σ4 fR_bad := by rw [eσ5, up_F (by decide)]
  have k5 : σ5 fT_kinds = σ fT_kinds := by rw [eσ5, up_F (by decide)]; exact k4
  -- of
  obtain ⟨v6, σ6, τ6, c1, c2, Q6, c4, c5, c6⟩ := U_take E5 Q5.1 Q5.2.1 (d := e) (by omega) (c := 16) (m := 107) (by decide) (by omega) (by omega) (by omega) j
  have E6 := uQ_E Q6 E5
  have k6 : σ6 fT_kinds = σ fT_kinds := (c4 _ (by decide)).trans k5
  have j2 : τ2 fM_tCount 0 0 = j := by rw [a5 _ (by decide)]; exact j1
  have j6 : τ6 fM_tCount 0 0 = j := by rw [c5 _ (by decide), up_F (by decide), b5 _ (by decide)]; exact j2
  -- the thing
  obtain ⟨σ7, τ7, d1, d2, Q7, d3, d4, d5, d6⟩ := T_thing E6 Q6.1 Q6.2.1 (d := e + 1) (by omega) (by rw [j6]; exact hjj)
  rw [j6] at Q7 d6
  have E7 := tsQ_E Q7 E6
  have k7 : σ7 fT_kinds = σ fT_kinds := (d4 _ (by decide)).trans k6
  have j7 : τ7 fM_tCount 0 0 = j := by rw [d3]; exact j6
  -- by
  obtain ⟨v8, σ8, τ8, g1, g2, Q8, g4, g5, g6⟩ := U_take E7 Q7.1 Q7.2.1 (d := e + 1) (by omega) (c := 19) (m := 110) (by decide) (by omega) (by omega) (by omega) j
  have E8 := uQ_E Q8 E7
  have k8 : σ8 fT_kinds = σ fT_kinds := (g4 _ (by decide)).trans k7
  have j8 : τ8 fM_tCount 0 0 = j := by rw [g5 _ (by decide)]; exact j7
  obtain ⟨σ9, eσ9⟩ : ∃ x, x = ga_up σ8 fR_behindFrom 0 0 (σ8 fR_p 0 0) := ⟨_, rfl⟩
  obtain ⟨τ9, eτ9⟩ : ∃ x, x = ga_up τ8 fM_tWhat 0 j (τ8 fM_at 0 0) := ⟨_, rfl⟩
  have Q9 : uQ σ8 σ9 τ8 τ9 f N j := by rw [eσ9, eτ9]; exact U_up Q8.1 Q8.2.1 (LC := [fR_behindFrom]) (LM := [fM_tWhat]) (fr_u (by decide)) (fr_u (by decide)) (by decide) (by decide) tKeep_u
  have E9 := uQ_E Q9 E8
  have p9 : σ9 fR_p = σ8 fR_p := by rw [eσ9, up_F (by decide)]
  have b9 : σ9 fR_bad = σ8 fR_bad := by rw [eσ9, up_F (by decide)]
  have k9 : σ9 fT_kinds = σ fT_kinds := by rw [eσ9, up_F (by decide)]; exact k8
  -- a number
  obtain ⟨v10, σ10, τ10, n1, n2, Q10, n4, n5, n6⟩ := U_take E9 Q9.1 Q9.2.1 (d := e + 1) (by omega) (c := 1) (m := 4) (by decide) (by omega) (by omega) (by omega) j
  have k10 : σ10 fT_kinds = σ fT_kinds := (n4 _ (by decide)).trans k9
  have j10 : τ10 fM_tCount 0 0 = j := by rw [n5 _ (by decide), eτ9, up_F (by decide)]; exact j8
  have Qall : uQ σ1 σ10 τ1 τ10 f N j := uQ_trans Q2 (uQ_trans Q3 (uQ_trans Q4 (uQ_trans Q5 (uQ_trans Q6 (uQ_trans (tsQ_u Q7) (uQ_trans Q8 (uQ_trans Q9 Q10)))))))
  rw [ej] at Qall
  have a1' : c_r_take (e + 1) σ1 11 = some (v2, σ2) := am_mono a1 (by omega)
  have b1' : c_r_run (e + 1) σ3 = some (0, σ4) := am_mono b1 (by omega)
  have c1' : c_r_take (e + 1) σ5 16 = some (v6, σ6) := am_mono c1 (by omega)
  -- the facts where nothing is wrong
  have F : σ10 fR_bad 0 0 = -1 → σ2 fR_p 0 0 = a + 2 ∧ σ fT_kinds 0 (a + 1) = 11 ∧ σ2 fR_p 0 0 < σ4 fR_p 0 0 ∧ rnR σ4 τ4 f r (σ2 fR_p 0 0) (σ4 fR_p 0 0) ∧ σ fT_kinds 0 (σ4 fR_p 0 0) = 16 ∧ σ6 fR_p 0 0 = σ4 fR_p 0 0 + 1 ∧ σ7 fR_thingFrom 0 0 = σ6 fR_p 0 0 ∧ σ7 fR_thingTo 0 0 = σ7 fR_p 0 0 ∧ σ6 fR_p 0 0 < σ7 fR_p 0 0 ∧ (∀ q, σ6 fR_p 0 0 ≤ q → q < σ7 fR_p 0 0 → ∀ now, ¬ endT now (σ fT_kinds 0 q)) ∧ thE σ7 τ7 f (σ6 fR_p 0 0) (σ7 fR_p 0 0) (τ7 fM_tThing 0 j) (τ7 fM_tThingRun 0 j) ∧ σ fT_kinds 0 (σ7 fR_p 0 0) = 19 ∧ σ8 fR_p 0 0 = σ7 fR_p 0 0 + 1 ∧ σ fT_kinds 0 (σ8 fR_p 0 0) = 1 ∧ σ10 fR_p 0 0 = σ8 fR_p 0 0 + 1 ∧ τ8 fM_at 0 0 = f + σ8 fR_p 0 0 := by
    intro z
    obtain ⟨z9, y9, x9⟩ := n6 z
    rw [b9] at z9
    rw [k9, p9] at y9
    rw [p9] at x9
    obtain ⟨z7, y7, x7⟩ := g6 z9
    rw [k7] at y7
    obtain ⟨z6, w1, w2, w3, w4, w5⟩ := d6 z7
    rw [k6] at w4
    obtain ⟨z5, y5, x5⟩ := c6 z6
    rw [b5'] at z5
    rw [k5, p5] at y5
    rw [p5] at x5
    obtain ⟨z3, y3, x3⟩ := b6 z5
    rw [b3] at z3
    rw [p3] at y3 x3
    obtain ⟨z1, y1, x1⟩ := a6 z3
    rw [k1, p1] at y1
    rw [p1] at x1
    have ok8 := Q8.1.2.resolve_right (fun y => by omega)
    exact ⟨by omega, y1, y3, x3, y5, x5, w1, w2, w3, fun q h1 h2 => (w4 q h1 h2).2, w5, y7, x7, y9, x9, ok8.2.2.2.2⟩
  refine ph_wrap hE hb hbN hτ hJ.1 hi hj (d := e + 1) (by omega) (σ1 := σ1) (σ2 := σ10) (τ1 := τ1) (τ2 := τ10) (τ3 := ga_up τ10 fM_tCount 0 0 (τ fM_tCount 0 0 + 1)) (by rw [eσ1]; exact fr_u (by decide)) K5 K6 K7 Qall (fr_u (by decide)) (Or.inl (up_eq ..)) (fun z => ?_) (fun z zb => ?_) ?_ ?_
  · obtain ⟨F1, F2, F3, F4, F5, F6, F7, F8, F9, F10, F11, F12, F13, F14, F15, F16⟩ := F z
    have no := rnR_no F4
    rw [k4] at no
    rw [k10]
    refine toT_mv K4 (by omega) (fun q h1 h2 => ?_)
    by_cases q1 : q = a + 1
    · rw [q1, F2]; unfold endT; omega
    · by_cases q2 : q < σ4 fR_p 0 0
      · exact no q (by omega) q2 1
      · by_cases q3 : q = σ4 fR_p 0 0
        · rw [q3, F5]; unfold endT; omega
        · by_cases q4 : q < σ7 fR_p 0 0
          · exact F10 q (by omega) q4 1
          · by_cases q5 : q = σ7 fR_p 0 0
            · rw [q5, F12]; unfold endT; omega
            · rw [show q = σ8 fR_p 0 0 by omega, F14]; unfold endT; omega
  · obtain ⟨F1, F2, F3, F4, F5, F6, F7, F8, F9, F10, F11, F12, F13, F14, F15, F16⟩ := F z
    have m10 : fr [fM_at, fM_isBad, fM_badAt, fM_runs, fM_runFrom, fM_runSize, fM_tRun, fM_tThing, fM_tThingRun, fM_thingSort, fM_thingRun, fM_thingAt, fM_tWhat] τ1 τ10 := by
      rw [eτ9] at n5
      exact fr_trans (fr_sub a5 (by decide)) (fr_trans (fr_sub b5 (by decide)) (fr_trans (fr_u (by decide)) (fr_trans (fr_sub c5 (by decide)) (fr_trans (fr_sub d5 (by decide)) (fr_trans (fr_sub g5 (by decide)) (fr_trans (fr_u (by decide)) (fr_sub n5 (by decide))))))))
    have kR : rKeep τ4 τ10 := rKeep_trans Q5.2.2.2.2.2.2.1 (rKeep_trans Q6.2.2.2.2.2.2.1 (rKeep_trans Q7.2.2.2.2.2.2.1 (rKeep_trans Q8.2.2.2.2.2.2.1 (rKeep_trans Q9.2.2.2.2.2.2.1 Q10.2.2.2.2.2.2.1))))
    have kR7 : rKeep τ7 τ10 := rKeep_trans Q8.2.2.2.2.2.2.1 (rKeep_trans Q9.2.2.2.2.2.2.1 Q10.2.2.2.2.2.2.1)
    have q1 : σ10 fR_propertyFrom 0 0 = σ2 fR_p 0 0 := by rw [n4 _ (by decide), eσ9, up_F (by decide), g4 _ (by decide), d4 _ (by decide), c4 _ (by decide), eσ5, up_F (by decide), b4 _ (by decide), eσ3, up_eq]
    have q2 : σ10 fR_propertyTo 0 0 = σ4 fR_p 0 0 := by rw [n4 _ (by decide), eσ9, up_F (by decide), g4 _ (by decide), d4 _ (by decide), c4 _ (by decide), eσ5, up_eq]
    have q3 : σ10 fR_thingFrom 0 0 = σ6 fR_p 0 0 := by rw [n4 _ (by decide), eσ9, up_F (by decide), g4 _ (by decide)]; exact F7
    have q4 : σ10 fR_thingTo 0 0 = σ7 fR_p 0 0 := by rw [n4 _ (by decide), eσ9, up_F (by decide), g4 _ (by decide)]; exact F8
    have q5 : σ10 fR_behindFrom 0 0 = σ8 fR_p 0 0 := by rw [n4 _ (by decide), eσ9, up_eq]
    have q6 : τ10 fM_tRun 0 j = r := by rw [n5 _ (by decide), eτ9, up_F (by decide), g5 _ (by decide), d5 _ (by decide), c5 _ (by decide), up_eq]
    have q7 : τ10 fM_tThing 0 j = τ7 fM_tThing 0 j := by rw [n5 _ (by decide), eτ9, up_F (by decide), g5 _ (by decide)]
    have q8 : τ10 fM_tThingRun 0 j = τ7 fM_tThingRun 0 j := by rw [n5 _ (by decide), eτ9, up_F (by decide), g5 _ (by decide)]
    have q9 : τ10 fM_tWhat 0 j = f + σ8 fR_p 0 0 := by rw [n5 _ (by decide), eτ9, up_eq]; exact F16
    rw [← ej] at rowE ⊢
    refine ⟨by rw [m10 _ (by decide)]; exact rowE.1, by rw [m10 _ (by decide)]; exact rowE.2, Or.inr (Or.inr (Or.inr (Or.inl ⟨?_, ?_, ?_, ?_, ?_, ?_, ?_, ?_⟩)))⟩
    · rw [k10, hc, m10 _ (by decide), eτ1, up_eq]; omega
    · rw [q1, q2, q6]; exact rnR_keep F4 kR (k10.trans k4.symm)
    · rw [q3, q4, q7, q8]; exact thE_keep F11 kR7 (k10.trans k7.symm)
    · rw [q5]; exact q9
    · rw [k10, q5]; exact F14
    · rw [q1, q2]; omega
    · rw [q3, q4]; omega
    · rw [q5]; omega
  · rw [e_r_phraseShape, if_pos hb, ck_ok _ B3, nn_ok _ B4.1, B1]
    simp only [Option.bind_some]
    rw [if_neg (by omega), if_neg (by omega), if_neg (by omega)]
    have rest : (c_r_take (e + 1) (ga_up (ga_up σ fR_p 0 0 a) fR_p 0 0 (w32 ((ga_up σ fR_p 0 0 a) fR_p 0 0 + 1))) 11).bind (fun q13 => (c_r_run (e + 1) (ga_up q13.2 fR_propertyFrom 0 0 (q13.2 fR_p 0 0))).bind fun q14 => (c_r_take (e + 1) (ga_up q14.2 fR_propertyTo 0 0 (q14.2 fR_p 0 0)) 16).bind fun q15 => (c_r_thing (e + 1) q15.2).bind fun q16 => (c_r_take (e + 1) q16.2 19).bind fun q17 => (c_r_take (e + 1) (ga_up q17.2 fR_behindFrom 0 0 (q17.2 fR_p 0 0)) 1).bind fun q18 => r_phraseShape_349 (e + 1) q18.2 b (σ fR_runs 0 0)) = r_phraseShape_349 (e + 1) σ10 b (σ fR_runs 0 0) := by
      rw [up_eq, up_up, w32_ok (by omega), ← eσ1, a1']
      simp only [Option.bind_some]
      rw [← eσ3, b1']
      simp only [Option.bind_some]
      rw [← eσ5, c1']
      simp only [Option.bind_some]
      rw [d1]
      simp only [Option.bind_some]
      rw [g1]
      simp only [Option.bind_some]
      rw [← eσ9, n1]
      rfl
    rcases hcw with ⟨h1, h2⟩ | ⟨h1, h2⟩
    · rw [if_pos (show σ fT_kinds 0 a = 55 by omega)]; exact rest
    · rw [if_neg (show ¬ σ fT_kinds 0 a = 55 by omega), if_pos (show σ fT_kinds 0 a = 56 by omega)]; exact rest
  · have m235 : m_phrase_235 (e + 1) (ga_up (ph0 τ) fM_at 0 0 (f + a + 1)) w (τ fM_pCount 0 0) = m_phrase_409 (e + 1) (ga_up τ10 fM_tCount 0 0 (τ fM_tCount 0 0 + 1)) := by
      have mp : c_m_property0 (e + 1) τ1 = some (0, τ6) := by
        rw [e_m_property0, a2]
        simp only [Option.bind_some]
        rw [b2]
        simp only [Option.bind_some]
        rw [j2, ck_ok _ hjj, c2]
        rfl
      rw [e_m_phrase_235, ck_ok _ hi, ← eτ1, mp]
      simp only [Option.bind_some]
      rw [d2]
      simp only [Option.bind_some]
      rw [g2]
      simp only [Option.bind_some]
      rw [j8, ck_ok _ hjj, ← eτ9, n2]
      simp only [Option.bind_some]
      rw [j10, w32_ok (by omega), ej]
    rw [e_m_phrase, ck_ok _ hi, ck_ok _ hi, ck_ok _ hj]
    show ((c_m_look (e + 1) (ph0 τ)).bind _) = _
    rw [B2]
    simp only [Option.bind_some]
    rcases hcw with ⟨h1, h2⟩ | ⟨h1, h2⟩
    · rw [hc, h1, if_neg (by decide), if_neg (by decide), if_neg (by decide), if_pos (by decide), if_pos (by decide), B5, w32_ok (x := f + a + 1) (by omega), ← h2]
      exact m235
    · rw [hc, h1, if_neg (by decide), if_neg (by decide), if_neg (by decide), if_neg (by decide), if_pos (by decide), if_neg (by decide), B5, w32_ok (x := f + a + 1) (by omega), ← h2]
      exact m235

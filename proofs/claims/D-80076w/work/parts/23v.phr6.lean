/-- an action is tried -/
theorem ph_try {σ τ : ga_S} {f : Int} {N : Nat} {a b : Int} (H : phH σ τ f N a b) {d : Nat} (hd : 8 ≤ d) (hc : σ fT_kinds 0 a = 58) : phA σ τ f N a b d := by
  obtain ⟨B1, B2, B3, B4, B5, B6⟩ := ph_begin H (d := d) (by omega)
  obtain ⟨K1, K2, K3, K4, K5, K6, K7⟩ := ph_key H hc (by omega) 5
  obtain ⟨hE, hb, ha, hT, hbN, hτ, hJ, hj, hi⟩ := H
  have hf := hE.1
  have hN := hE.2.1
  have hN5 := hE.2.2.1
  obtain ⟨j, ej⟩ : ∃ j, j = τ fM_tCount 0 0 := ⟨_, rfl⟩
  have hjj : 0 ≤ j ∧ j < 1700 := by rw [ej]; exact hj
  obtain ⟨σ0, eσ0⟩ : ∃ x, x = ga_up σ fR_p 0 0 (a + 1) := ⟨_, rfl⟩
  obtain ⟨τ1, eτ1⟩ : ∃ x, x = ga_up (ga_up (ph0 τ) fM_at 0 0 (f + a + 1)) fM_pWhat 0 (τ fM_pCount 0 0) 5 := ⟨_, rfl⟩
  rw [← eσ0, ← eτ1] at K1 K2 K3
  rw [← eτ1] at K5 K6 K7
  obtain ⟨σ1, eσ1⟩ : ∃ x, x = ga_up σ0 fR_propertyFrom 0 0 (a + 1) := ⟨_, rfl⟩
  have Q1 : uQ σ0 σ1 τ1 τ1 f N j := by rw [eσ1]; exact U_up K1 K2 (LC := [fR_propertyFrom]) (LM := []) (fr_u (by decide)) (fr_refl _ _) (by decide) (by decide) (tKeep_refl _ _)
  have E1 := uQ_E Q1 K3
  have p1 : σ1 fR_p 0 0 = a + 1 := by rw [eσ1, up_F (by decide), eσ0, up_eq]
  have k1 : σ1 fT_kinds = σ fT_kinds := by rw [eσ1, up_F (by decide), eσ0, up_F (by decide)]
  have j1 : τ1 fM_tCount 0 0 = j := by rw [K5 _ (by decide), B6, ej]
  have rowE := ph_row hτ.2 K5
  obtain ⟨r, σ2, τ2, a1, a2, Q2, a4, a5, a6⟩ := T_runU E1 Q1.1 Q1.2.1 (d := d) (by omega) j
  have E2 := uQ_E Q2 E1
  have k2 : σ2 fT_kinds = σ fT_kinds := (a4 _ (by decide)).trans k1
  have j2 : τ2 fM_tCount 0 0 = j := by rw [a5 _ (by decide)]; exact j1
  obtain ⟨σ3, eσ3⟩ : ∃ x, x = ga_up (ga_up σ2 fR_propertyTo 0 0 (σ2 fR_p 0 0)) fR_thingFrom 0 0 (-1) := ⟨_, rfl⟩
  obtain ⟨τ3, eτ3⟩ : ∃ x, x = ga_up τ2 fM_tRun 0 j r := ⟨_, rfl⟩
  have Q3 : uQ σ2 σ3 τ2 τ3 f N j := by rw [eσ3, eτ3]; exact U_up Q2.1 Q2.2.1 (LC := [fR_propertyTo, fR_thingFrom]) (LM := [fM_tRun]) (fr_trans (fr_u (by decide)) (fr_u (by decide))) (fr_u (by decide)) (by decide) (by decide) tKeep_u
  have E3 := uQ_E Q3 E2
  have p3 : σ3 fR_p = σ2 fR_p := by rw [eσ3, up_F (by decide), up_F (by decide)]
  have b3 : σ3 fR_bad = σ2 fR_bad := by rw [eσ3, up_F (by decide), up_F (by decide)]
  have k3 : σ3 fT_kinds = σ fT_kinds := by rw [eσ3, up_F (by decide), up_F (by decide)]; exact k2
  have j3 : τ3 fM_tCount 0 0 = j := by rw [eτ3, up_F (by decide)]; exact j2
  have R3 := Q3.1.1
  -- both look whether a thing stands there
  obtain ⟨g, hg⟩ : ∃ g : Bool, g = decide (σ2 fR_bad 0 0 = -1 ∧ ((9 ≤ σ fT_kinds 0 (σ2 fR_p 0 0) ∧ σ fT_kinds 0 (σ2 fR_p 0 0) ≤ 12) ∨ σ fT_kinds 0 (σ2 fR_p 0 0) = 63 ∨ σ fT_kinds 0 (σ2 fR_p 0 0) = 62)) := ⟨_, rfl⟩
  have T2 : σ2 fR_bad 0 0 = -1 → toT (σ fT_kinds 0) 1 (σ2 fR_p 0 0) b := by
    intro z
    obtain ⟨z1, z2, z3⟩ := a6 z
    rw [p1] at z2 z3
    have no := rnR_no z3
    rw [k2] at no
    exact toT_mv K4 (by omega) (fun q h1 h2 => no q h1 h2 1)
  have cC : c_r_phraseShape (d + 1) σ a b = if g = true then r_phraseShape_324 d σ3 b (σ fR_runs 0 0) else r_phraseShape_349 d σ3 b (σ fR_runs 0 0) := by
    rw [e_r_phraseShape, if_pos hb, ck_ok _ B3, nn_ok _ B4.1, B1]
    simp only [Option.bind_some]
    rw [if_neg (by omega), if_neg (by omega), if_neg (by omega), if_neg (by omega), if_neg (by omega), if_neg (by omega), if_pos hc, up_eq, up_up, w32_ok (by omega), ← eσ0, ← eσ1, a1]
    simp only [Option.bind_some]
    rw [← eσ3]
    by_cases cb : σ2 fR_bad 0 0 = -1
    · rw [if_pos cb]
      obtain ⟨t1, t2, t3⟩ := T2 cb
      by_cases cp : σ2 fR_p 0 0 < b
      · have kp := hE.2.2.2.1 (σ2 fR_p 0 0) (by rw [p3] at R3; omega) (by omega)
        rw [if_pos cp, k2, ck_ok _ (by rw [p3] at R3; omega), nn_ok _ kp.1, s_k_isArticle (by omega)]
        simp only [Option.bind_some]
        by_cases c1 : 9 ≤ σ fT_kinds 0 (σ2 fR_p 0 0) ∧ σ fT_kinds 0 (σ2 fR_p 0 0) ≤ 12
        · rw [decide_eq_true c1, if_neg b2i_n, if_pos (by rw [hg]; exact decide_eq_true ⟨cb, Or.inl c1⟩)]
        · rw [decide_eq_false c1, if_pos b2i_f, p3, s_r_is (by omega) (by rw [p3] at R3; omega)]
          simp only [Option.bind_some]
          rw [k3]
          by_cases c2 : σ fT_kinds 0 (σ2 fR_p 0 0) = 63
          · rw [decide_eq_true c2, if_neg b2i_n, if_pos (by rw [hg]; exact decide_eq_true ⟨cb, Or.inr (Or.inl c2)⟩)]
          · rw [decide_eq_false c2, if_pos b2i_f, p3, s_r_is (by omega) (by rw [p3] at R3; omega)]
            simp only [Option.bind_some]
            rw [k3]
            by_cases c3 : σ fT_kinds 0 (σ2 fR_p 0 0) = 62
            · rw [decide_eq_true c3, if_neg b2i_n, if_pos (by rw [hg]; exact decide_eq_true ⟨cb, Or.inr (Or.inr c3)⟩)]
            · rw [decide_eq_false c3, if_pos b2i_f, if_neg (by rw [hg, decide_eq_false (fun z => by have := z.2; omega)]; decide)]
      · have ep : σ2 fR_p 0 0 = b := by omega
        rw [if_neg cp, if_neg (by rw [hg, decide_eq_false (fun z => by have := z.2; rw [ep] at this; unfold endT at t2; omega)]; decide)]
    · rw [if_neg cb, if_neg (by rw [hg, decide_eq_false (fun z => cb z.1)]; decide)]
  have mM : c_m_phrase (d + 1) τ = m_phrase_344 d τ3 (b2i g) j := by
    rw [e_m_phrase, ck_ok _ hi, ck_ok _ hi, ck_ok _ hj]
    show ((c_m_look d (ph0 τ)).bind _) = _
    rw [B2]
    simp only [Option.bind_some]
    rw [hc, if_neg (by decide), if_neg (by decide), if_neg (by decide), if_neg (by decide), if_neg (by decide), if_neg (by decide), if_pos (by decide), ck_ok _ hi, B5, w32_ok (x := f + a + 1) (by omega), ← eτ1, a2]
    simp only [Option.bind_some]
    rw [B6, ck_ok _ hj, ← ej, ← eτ3, s_nx E3 Q3.1 (by omega) (c := 63) (by decide) (by omega)]
    simp only [Option.bind_some]
    rw [b3, p3, k3, j2]
    by_cases c2 : σ2 fR_bad 0 0 = -1 ∧ σ fT_kinds 0 (σ2 fR_p 0 0) = 63
    · rw [decide_eq_true c2, if_neg b2i_n, e_m_phrase_339, hg, decide_eq_true ⟨c2.1, Or.inr (Or.inl c2.2)⟩]; rfl
    · rw [decide_eq_false c2, if_pos b2i_f, s_nx E3 Q3.1 (by omega) (c := 62) (by decide) (by omega)]
      simp only [Option.bind_some]
      rw [b3, p3, k3]
      by_cases c3 : σ2 fR_bad 0 0 = -1 ∧ σ fT_kinds 0 (σ2 fR_p 0 0) = 62
      · rw [decide_eq_true c3, if_neg b2i_n, e_m_phrase_339, hg, decide_eq_true ⟨c3.1, Or.inr (Or.inr c3.2)⟩]; rfl
      · rw [decide_eq_false c3, if_pos b2i_f]
        have L := s_m_lookArt E3 Q3.1 (d := d) (by omega)
        have ea : artAt σ3 = g := by
          rw [hg]
          unfold artAt
          rw [b3, p3, k3]
          apply decide_eq_decide.mpr
          constructor
          · intro z; exact ⟨z.1, Or.inl z.2⟩
          · intro z
            refine ⟨z.1, ?_⟩
            rcases z.2 with y | y | y
            · exact y
            · exact absurd ⟨z.1, y⟩ c2
            · exact absurd ⟨z.1, y⟩ c3
        rw [ea] at L
        rw [← Option.bind_assoc, L]
        simp only [Option.bind_some]
        cases g with
        | true => rw [if_neg b2i_n, e_m_phrase_339]; rfl
        | false => rw [if_pos b2i_f]; rfl
  -- the model's not tells it
  obtain ⟨τ4, eτ4⟩ : ∃ x, x = ga_up τ3 fM_tNot 0 j (b2i g) := ⟨_, rfl⟩
  have Q4 : uQ σ3 σ3 τ3 τ4 f N j := by rw [eτ4]; exact U_up Q3.1 Q3.2.1 (LC := []) (LM := [fM_tNot]) (fr_refl _ _) (fr_u (by decide)) (by decide) (by decide) tKeep_u
  have E4 := uQ_E Q4 E3
  have j4 : τ4 fM_tCount 0 0 = j := by rw [eτ4, up_F (by decide)]; exact j3
  have n4 : τ4 fM_tNot 0 j = b2i g := by rw [eτ4, up_eq]
  have m344 : m_phrase_344 d τ3 (b2i g) j = if g = true then (c_m_thingOfTest d τ4).bind (fun q14 => m_phrase_361 d q14.2) else m_phrase_361 d τ4 := by
    rw [e_m_phrase_344, ck_ok _ hjj, z1_ok _ (b2i_01 g), j3, ck_ok _ hjj, ← eτ4, n4]
    cases g with
    | true => rw [if_neg b2i_n, if_pos rfl]
    | false => rw [if_pos b2i_f, if_neg (by decide)]
  have fσ1 : fr [fR_p, fR_propertyFrom] σ σ1 := by rw [eσ1, eσ0]; exact fr_trans (fr_u (by decide)) (fr_u (by decide))
  have q1 : σ3 fR_propertyFrom 0 0 = a + 1 := by rw [eσ3, up_F (by decide), up_F (by decide), a4 _ (by decide), eσ1, up_eq]
  have q2 : σ3 fR_propertyTo 0 0 = σ2 fR_p 0 0 := by rw [eσ3, up_F (by decide), up_eq]
  have q3 : σ3 fR_thingFrom 0 0 = -1 := by rw [eσ3, up_eq]
  have q4 : τ4 fM_tRun 0 j = r := by rw [eτ4, up_F (by decide), eτ3, up_eq]
  have Q14 : uQ σ1 σ3 τ1 τ4 f N j := uQ_trans Q2 (uQ_trans Q3 Q4)
  have m4 : fr [fM_at, fM_isBad, fM_badAt, fM_runs, fM_runFrom, fM_runSize, fM_tRun, fM_tNot] τ1 τ4 := by
    rw [eτ4, eτ3]
    exact fr_trans (fr_sub a5 (by decide)) (fr_trans (fr_u (by decide)) (fr_u (by decide)))
  have rn : σ2 fR_bad 0 0 = -1 → rnR σ3 τ4 f r (a + 1) (σ2 fR_p 0 0) := by
    intro z
    obtain ⟨z1, z2, z3⟩ := a6 z
    rw [p1] at z3
    exact rnR_keep z3 (rKeep_trans Q3.2.2.2.2.2.2.1 Q4.2.2.2.2.2.2.1) (k3.trans k2.symm)
  cases hgg : g with
  | false =>
    rw [hgg] at cC m344 n4
    rw [if_neg (by decide)] at cC m344
    rw [ej] at Q14
    refine ph_wrap hE hb hbN hτ hJ.1 hi hj (d := d) (by omega) (σ1 := σ1) (σ2 := σ3) (τ1 := τ1) (τ2 := τ4) (τ3 := ga_up τ4 fM_tCount 0 0 (τ fM_tCount 0 0 + 1)) fσ1 K5 K6 K7 Q14 (fr_u (by decide)) (Or.inl (up_eq ..)) (fun z => ?_) (fun z zb => ?_) cC ?_
    · rw [k3, p3]; rw [b3] at z; exact T2 z
    · rw [b3] at z
      rw [← ej] at rowE ⊢
      refine ⟨by rw [m4 _ (by decide)]; exact rowE.1, by rw [m4 _ (by decide)]; exact rowE.2, Or.inr (Or.inr (Or.inr (Or.inr (Or.inr ⟨by rw [k3]; exact hc, ?_, ?_, by rw [q1, q2]; rw [p3] at zb; omega, Or.inl ⟨q3, n4⟩⟩))))⟩
      · rw [m4 _ (by decide), eτ1, up_eq]
      · rw [q1, q2, q4]; exact rn z
    · rw [mM, hgg, m344, e_m_phrase_361, j4, w32_ok (by omega), ej]
  | true =>
    rw [hgg] at cC m344 n4 hg
    rw [if_pos rfl] at cC m344
    have hg' := of_decide_eq_true hg.symm
    obtain ⟨σ5, τ5, c1, c2, Q5, c3, c4, c5, c6⟩ := T_thing E4 Q4.1 Q4.2.1 (d := d) (by omega) (by rw [j4]; exact hjj)
    rw [j4] at Q5 c6
    have k5 : σ5 fT_kinds = σ fT_kinds := (c4 _ (by decide)).trans k3
    have j5 : τ5 fM_tCount 0 0 = j := by rw [c3]; exact j4
    have Q15 : uQ σ1 σ5 τ1 τ5 f N j := uQ_trans Q14 (tsQ_u Q5)
    rw [ej] at Q15
    refine ph_wrap hE hb hbN hτ hJ.1 hi hj (d := d) (by omega) (σ1 := σ1) (σ2 := σ5) (τ1 := τ1) (τ2 := τ5) (τ3 := ga_up τ5 fM_tCount 0 0 (τ fM_tCount 0 0 + 1)) fσ1 K5 K6 K7 Q15 (fr_u (by decide)) (Or.inl (up_eq ..)) (fun z => ?_) (fun z zb => ?_) ?_ ?_
    · obtain ⟨w1, w2, w3, w4, w5, w6⟩ := c6 z
      rw [k3, p3] at w5
      rw [p3] at w4
      rw [k5]
      exact toT_mv (T2 hg'.1) (by omega) (fun q h1 h2 => (w5 q h1 h2).2 1)
    · obtain ⟨w1, w2, w3, w4, w5, w6⟩ := c6 z
      rw [p3] at w2 w6
      rw [← ej] at rowE ⊢
      refine ⟨by rw [c5 _ (by decide), m4 _ (by decide)]; exact rowE.1, by rw [c5 _ (by decide), m4 _ (by decide)]; exact rowE.2, Or.inr (Or.inr (Or.inr (Or.inr (Or.inr ⟨by rw [k5]; exact hc, ?_, ?_, by rw [c4 fR_propertyFrom (by decide), q1, c4 fR_propertyTo (by decide), q2]; rw [p3] at w4; omega, Or.inr ⟨?_, ?_, ?_, ?_⟩⟩))))⟩
      · rw [c5 _ (by decide), m4 _ (by decide), eτ1, up_eq]
      · rw [c4 fR_propertyFrom (by decide), c4 fR_propertyTo (by decide), q1, q2, c5 fM_tRun (by decide), q4]
        exact rnR_keep (rn hg'.1) Q5.2.2.2.2.2.2.1 (c4 _ (by decide))
      · rw [w2]; rw [p3] at R3; exact R3.1
      · rw [c5 _ (by decide)]; exact n4
      · rw [w2, w3]; exact w6
      · have y := (a6 hg'.1).2.1; rw [p1] at y; rw [w2, w3]; omega
    · rw [cC, e_r_phraseShape_324, c1]; rfl
    · rw [mM, hgg, m344, c2]
      simp only [Option.bind_some]
      rw [e_m_phrase_361, j5, w32_ok (by omega), ej]
/-- a phrase, on both sides -/
theorem P_phrase {σ τ : ga_S} {f : Int} {N : Nat} {a b : Int} (H : phH σ τ f N a b) {d : Nat} (hd : 9 ≤ d) : ∃ σ' τ', c_r_phraseShape d σ a b = some (0, σ') ∧ c_m_phrase d τ = some (0, τ') ∧ phX σ σ' τ τ' f N a b := by
  obtain ⟨d, rfl⟩ : ∃ e, d = e + 1 := ⟨d - 1, by omega⟩
  by_cases c : 52 ≤ σ fT_kinds 0 a ∧ σ fT_kinds 0 a ≤ 58
  · have cs : σ fT_kinds 0 a = 52 ∨ σ fT_kinds 0 a = 53 ∨ σ fT_kinds 0 a = 54 ∨ σ fT_kinds 0 a = 55 ∨ σ fT_kinds 0 a = 56 ∨ σ fT_kinds 0 a = 57 ∨ σ fT_kinds 0 a = 58 := by omega
    rcases cs with h | h | h | h | h | h | h
    · exact ph_say H (by omega) h
    · exact ph_now H (by omega) h
    · exact ph_move H (by omega) h
    · exact ph_more H (by omega) h (Or.inl ⟨rfl, rfl⟩)
    · exact ph_more H (by omega) h (Or.inr ⟨rfl, rfl⟩)
    · exact ph_stop H (by omega) h
    · exact ph_try H (by omega) h
  · exact ph_wrong H (by omega) c

/-! a turn, on both sides -/
section
variable {σ τ : ga_S}
theorem act_J {w : Int} (hw : 0 ≤ w ∧ w ≤ 8) {d d' : Nat} (hd : 40 ≤ d) (hd' : 41 ≤ d') (H : w < 8 → AJ2 d d' (w + 1)) : AJ2 (d + 4) (d' + 3) w := by
  intro σ τ T hw0 a noun ha nk
  obtain ⟨_, ⟨g, X⟩, O⟩ := id T.1
  have Wc := X.1.2.2.2.2.2.2.2.2.1
  have c12 := Wc.2.1
  have wc := Wc.2.2.2 a ha.1 ha.2
  have nn0 : ∀ s : Int, 0 ≤ s → s < 4 → 0 ≤ σ fU_ordered 0 s := by
    intro s s0 s1
    rw [O.1 s s0 s1]
    unfold cnS cnP
    omega
  obtain ⟨noun', en⟩ : ∃ z, z = (if σ fW_actionKinds 0 a < 0 then (-1 : Int) else noun) := ⟨_, rfl⟩
  have n1 : 0 ≤ σ fW_actionKinds 0 a → noun' = noun := fun z => by rw [en, if_neg (by omega)]
  have n2 : σ fW_actionKinds 0 a < 0 → noun' = -1 := fun z => by rw [en, if_pos z]
  have rC0 : c_u_act (d + 4) σ a noun = u_act_2 (d + 3) σ a noun 0 := e_u_act (d + 3) σ a noun
  have rM0 : c_m_action (d' + 3) τ a noun w = m_action_19 (d' + 2) τ a noun w noun' 0 := by
    rw [e_m_action, ck_ok _ (by omega), wc.2.2]
    by_cases c : σ fW_actionKinds 0 a < 0
    · rw [if_pos c, e_m_action_14, n2 c]
    · rw [if_neg c, e_m_action_14, n1 (by omega)]
  rcases lo_0 hw hd hd' H (σ fU_ordered 0 0).toNat 0 σ τ (Int.le_refl _) (by have := nn0 0 (by decide) (by decide); omega) T hw0 nk n1 n2 with ⟨σ1, τ1, c1, c2, c3, c4, c5, c6⟩ | ⟨σ1, τ1, c1, c2, c3, c4, c5, c6⟩
  · rw [e_u_act_66] at c1
    rw [e_m_action_78] at c2
    have e1 : σ1 fU_ordered = σ fU_ordered := c3 _ (by decide)
    rcases lo_1 hw hd hd' H (noun' := noun') (σ1 fU_ordered 0 1).toNat 0 σ1 τ1 (Int.le_refl _) (by have := nn0 1 (by decide) (by decide); rw [e1]; omega) c5 c6 (nOk_f nk c3) (by rw [c3 _ (by decide)]; exact n1) (by rw [c3 _ (by decide)]; exact n2) with ⟨σ2, τ2, b1, b2, b3, b4, b5, b6⟩ | ⟨σ2, τ2, b1, b2, b3, b4, b5, b6⟩
    · have F1 := fr_trans c3 b3
      have F2 := fr_trans c4 b4
      have e2 : σ2 fU_ordered = σ fU_ordered := F1 _ (by decide)
      have t4 := b5.2.2.1.1
      by_cases ens : σ2 fU_ends 0 0 = 0
      · have nk2 := nOk_f nk F1
        obtain ⟨b, σ3, τ3, a1, a2, a3, a4, a5⟩ := done_J b5.1 nk2.1 nk2.2 (d := d + 3) (d' := d' + 2) (by omega) (by omega)
        have T3 : TJ σ3 τ3 := TJ_of b5 a3 (by decide) a4 (by decide) a5
        have G3 : fr tuC σ2 σ3 := fr_sub a3 (by decide)
        have G4 : fr tuM τ2 τ3 := fr_sub a4 (by decide)
        have w3 : σ3 fU_within 0 0 = w := by rw [a3 _ (by decide)]; exact b6
        have rC1 : ∀ r, (if b2i b = 0 then some (3, σ3) else u_act_148 (d + 3) σ3 a noun) = r → c_u_act (d + 4) σ a noun = r := by
          intro r hr
          rw [rC0, c1, b1, e_u_act_130, if_pos ens, a1, Option.bind_some]
          exact hr
        have rM1 : ∀ r, (if b2i b = 0 then some (3, τ3) else m_action_161 (d' + 2) τ3 a w noun' 0) = r → c_m_action (d' + 3) τ a noun w = r := by
          intro r hr
          rw [rM0, c2, b2, e_m_action_138, if_pos (by rw [t4]; exact ens), a2, Option.bind_some]
          exact hr
        cases b with
        | false => exact ⟨3, 3, σ3, τ3, rC1 _ (if_pos b2i_f), rM1 _ (if_pos b2i_f), ⟨fun _ => rfl, by decide⟩, fr_trans F1 G3, fr_trans F2 G4, T3, w3⟩
        | true =>
          have rC2 := rC1 _ (if_neg b2i_n)
          have rM2 := rM1 _ (if_neg b2i_n)
          rw [e_u_act_148] at rC2
          have F3 := fr_trans F1 G3
          have e3 : σ3 fU_ordered = σ fU_ordered := F3 _ (by decide)
          rcases lo_2 hw hd hd' H (noun' := noun') (σ3 fU_ordered 0 2).toNat 0 σ3 τ3 (Int.le_refl _) (by have := nn0 2 (by decide) (by decide); rw [e3]; omega) T3 w3 (nOk_f nk F3) (by rw [F3 _ (by decide)]; exact n1) (by rw [F3 _ (by decide)]; exact n2) with ⟨σ4, τ4, h1, h2, h3, h4, h5, h6⟩ | ⟨σ4, τ4, h1, h2, h3, h4, h5, h6⟩
          · exact ⟨0, 0, σ4, τ4, rC2.trans h1, rM2.trans h2, ⟨fun _ => rfl, by decide⟩, fr_trans F3 h3, fr_trans (fr_trans F2 G4) h4, h5, h6⟩
          · exact ⟨4, 4, σ4, τ4, rC2.trans h1, rM2.trans h2, ⟨fun _ => rfl, by decide⟩, fr_trans F3 h3, fr_trans (fr_trans F2 G4) h4, h5, h6⟩
      · refine ⟨0, 5, σ2, τ2, ?_, ?_, ⟨fun z => absurd z ens, by decide⟩, F1, F2, b5, b6⟩
        · rw [rC0, c1, b1, e_u_act_130, if_neg ens, e_u_act_148, e_u_act_150]
          by_cases c : (0 : Int) < σ2 fU_ordered 0 2
          · rw [if_pos c, if_neg ens]
          · rw [if_neg c]
        · rw [rM0, c2, b2, e_m_action_138, if_neg (by rw [t4]; exact ens)]
    · exact ⟨2, 2, σ2, τ2, by rw [rC0, c1]; exact b1, by rw [rM0, c2]; exact b2, ⟨fun _ => rfl, by decide⟩, fr_trans c3 b3, fr_trans c4 b4, b5, b6⟩
  · exact ⟨1, 1, σ1, τ1, by rw [rC0]; exact c1, by rw [rM0]; exact c2, ⟨fun _ => rfl, by decide⟩, c3, c4, c5, c6⟩
theorem AJ_mono {w : Int} {d d' e e' : Nat} (h : AJ2 d d' w) (hd : d ≤ e) (hd' : d' ≤ e') : AJ2 e e' w := by
  intro σ τ T hw0 a noun ha nk
  obtain ⟨v, v', σ', τ', h1, h2, h3⟩ := h σ τ T hw0 a noun ha nk
  exact ⟨v, v', σ', τ', am_mono h1 hd, am_mono h2 hd', h3⟩
/-- at every depth -/
theorem act_all : ∀ n : Nat, n ≤ 8 → AJ2 (44 + 4 * n) (44 + 4 * n) (8 - n)
  | 0, _ => act_J (w := 8 - ((0 : Nat) : Int)) (by omega) (d := 40) (d' := 41) (by omega) (by omega) (fun z => by omega)
  | n + 1, h => by
    have ih := act_all n (by omega)
    have e : (8 : Int) - ((n + 1 : Nat) : Int) + 1 = 8 - (n : Int) := by push_cast; omega
    have r := act_J (w := 8 - ((n + 1 : Nat) : Int)) (by push_cast; omega) (d := 44 + 4 * n) (d' := 45 + 4 * n) (by omega) (by omega) (fun _ => by rw [e]; exact AJ_mono ih (by omega) (by omega))
    exact AJ_mono r (by omega) (by omega)
/-- rules of every turn -/
theorem lo_3 {d d' : Nat} (hd : 76 ≤ d) (hd' : 76 ≤ d') {a v v' : Int} (v0 : 0 ≤ v) : ∀ (m : Nat) (k : Int) (σ τ : ga_S), 0 ≤ k → k + m = σ fU_ordered 0 3 → TJ σ τ → σ fU_within 0 0 = 0 → (σ fU_ends 0 0 = 0 → v = v') → ∃ x σ' τ', u_turn_30 (d + 3) σ v k = some (x, σ') ∧ m_act_120 (d' + 2) τ a v' k = some (x, τ') ∧ fr tuC σ σ' ∧ fr tuM τ τ' ∧ TJ σ' τ' ∧ 0 ≤ x
  | 0, k, σ, τ, h0, hk, T, hw0, hv => by
    obtain ⟨R, M⟩ := AP_r T.1
    have ra := (m_ruleAt R M T.1.2.2 (s := 3) (k := k) (by decide) h0 (d := d' + 2) (by omega)).1
    rw [if_neg (by omega)] at ra
    have rC : u_turn_30 (d + 3) σ v k = u_turn_92 (d + 3) σ v := by rw [e_u_turn_30, if_neg (by omega)]
    have rM : m_act_120 (d' + 2) τ a v' k = m_act_173 (d' + 2) τ v' := by rw [e_m_act_120, ra, Option.bind_some]; exact if_pos rfl
    rw [e_u_turn_92] at rC
    rw [e_m_act_173, T.2.2.1.1] at rM
    by_cases en : σ fU_ends 0 0 = 0
    · rw [if_pos en] at rC rM
      exact ⟨v, σ, τ, rC, by rw [rM, hv en], fr_refl _ _, fr_refl _ _, T, v0⟩
    · rw [if_neg en] at rC rM
      exact ⟨5, σ, τ, rC, rM, fr_refl _ _, fr_refl _ _, T, by decide⟩
  | m + 1, k, σ, τ, h0, hk, T, hw0, hv => by
    obtain ⟨R, M⟩ := AP_r T.1
    obtain ⟨ra, rr⟩ := m_ruleAt R M T.1.2.2 (s := 3) (k := k) (by decide) h0 (d := d' + 2) (by omega)
    have lt : k < σ fU_ordered 0 3 := by omega
    rw [if_pos lt] at ra
    obtain ⟨l0, l1, l2⟩ := rr lt
    have k24 : k < 24 := by
      have a1 := T.1.2.2.1 3 (by decide) (by decide)
      have a2 := cnS_le (σ := σ) 3 (σ fW_rules 0 0) R.1.1
      have a3 := R.1.2
      omega
    have r24 := R.1.2
    obtain ⟨l, el⟩ : ∃ l, l = σ fU_order 3 k := ⟨_, rfl⟩
    rw [← el] at ra l0 l1 l2
    have t4 := T.2.2.1.1
    by_cases en : σ fU_ends 0 0 = 0
    · obtain ⟨⟨Q, _⟩, ⟨g, X⟩, _⟩ := id T.1
      obtain ⟨_, ⟨b1, b2, b3, b4, b5, b6⟩, _, ⟨_, dw⟩, _⟩ := Q
      obtain ⟨nk, kN, G⟩ := X.2.2.2.2.2.1.2.2.2.2.1 l l0 l1
      have nk1 : nk = -1 := by
        rcases G.2.1 with y | y
        · exact y.2.1
        · exact absurd l2 y.1
      have iv : IVk σ nk (-1) := fun z => absurd nk1 z
      obtain ⟨b, τ1, a1, a2, a3⟩ := tests_J X ⟨b1, b2, b6.2⟩ dw ⟨l0, l1⟩ G (noun := -1) (noun' := -1) iv (fun _ => rfl) (d := d + 3) (d' := d' + 1) (by omega) (by omega)
      have T1 : TJ σ τ1 := TJ_of T (fr_refl [] σ) (by decide) a3 (by decide) (AP_nl T.1 a3)
      have F1 : fr tuM τ τ1 := fr_sub a3 (by decide)
      have ms : τ fM_ruleSort 0 l = 3 := by rw [G.1.1]; exact l2
      have ap : c_m_applies (d' + 2) τ l a (-1) = some (b2i b, τ1) := by
        rw [e_m_applies, ck_ok _ (by omega), if_neg (by omega)]; exact a2
      have rC : ∀ r, (if b2i b = 0 then u_turn_86 (d + 3) σ v k else (c_u_follow (d + 3) σ (σ fW_rule 0 l) (-1)).bind fun q3 => u_turn_86 (d + 3) q3.2 v k) = r → u_turn_30 (d + 3) σ v k = r := by
        intro r hr
        rw [e_u_turn_30, if_pos lt, if_pos en, ck_ok _ (by omega), ← el, ck_ok _ (by omega), a1, Option.bind_some]
        exact hr
      have rM : ∀ r, (if b2i b = 0 then m_act_167 (d' + 2) τ1 a v' k else (c_m_runs (d' + 2) τ1 l (-1) 0).bind fun q9 => m_act_167 (d' + 2) q9.2 a v' k) = r → m_act_120 (d' + 2) τ a v' k = r := by
        intro r hr
        rw [e_m_act_120, ra, Option.bind_some]
        refine (if_neg (show ¬ l = -1 by omega)).trans ((if_pos (show τ fM_isEnded 0 0 = 0 by rw [t4]; exact en)).trans ?_)
        show ((c_m_ruleAt (d' + 2) τ 3 k).bind fun q7 => (c_m_applies (d' + 2) q7.2 q7.1 a (-1)).bind fun q8 => if q8.1 = 0 then m_act_167 (d' + 2) q8.2 a v' k else (c_m_runs (d' + 2) q8.2 q7.1 (-1) 0).bind fun q9 => m_act_167 (d' + 2) q9.2 a v' k) = _
        rw [ra, Option.bind_some]
        show ((c_m_applies (d' + 2) τ l a (-1)).bind fun q8 => if q8.1 = 0 then m_act_167 (d' + 2) q8.2 a v' k else (c_m_runs (d' + 2) q8.2 l (-1) 0).bind fun q9 => m_act_167 (d' + 2) q9.2 a v' k) = _
        rw [ap, Option.bind_some]
        exact hr
      cases b with
      | false =>
        obtain ⟨x, σ', τ', c1, c2, c3, c4, c5⟩ := lo_3 hd hd' v0 m (k + 1) σ τ1 (by omega) (by omega) T1 hw0 hv (a := a)
        refine ⟨x, σ', τ', rC _ ((if_pos b2i_f).trans ?_), rM _ ((if_pos b2i_f).trans ?_), c3, fr_trans F1 c4, c5⟩
        · rw [e_u_turn_86, w32_ok (by omega)]; exact c1
        · rw [e_m_act_167, w32_ok (by omega)]; exact c2
      | true =>
        have G1 : ruG σ nk σ τ1 (σ fW_rule 0 l) l := ruG_rows G (fun _ _ => rfl) (fun _ _ _ _ _ => rfl) (fun F hF => by rw [fr_no a3 (M := ruL9) (by decide) hF]) (fun i _ _ => by rw [a3 _ (by decide)]) (fun F hF j _ => by rw [fr_no a3 (M := qL) (by decide) hF]) (fun F hF j _ => by rw [fr_no a3 (M := xL) (by decide) hF]) (by rw [a3 _ (by decide)]; exact Int.le_refl _) (by rw [a3 _ (by decide)]; exact Int.le_refl _)
        obtain ⟨c, σ2, τ2, d1, d2, d3, d4, d5, d6⟩ := fol_J T1 hw0 (by decide) ⟨l0, l1⟩ kN G1 iv (noun' := -1) (fun _ => rfl) ⟨fun _ => nk1, fun _ => rfl⟩ (d := d) (d' := d') (by omega) (by omega) (fun _ => AJ_mono (act_all 7 (by decide)) (by omega) (by omega))
        obtain ⟨x, σ', τ', c1, c2, c3, c4, c5⟩ := lo_3 hd hd' v0 m (k + 1) σ2 τ2 (by omega) (by rw [d3 _ (by decide)]; omega) d5 d6 (fun z => hv (by
          exact en)) (a := a)
        refine ⟨x, σ', τ', rC _ ((if_neg b2i_n).trans ?_), rM _ ((if_neg b2i_n).trans ?_), fr_trans d3 c3, fr_trans F1 (fr_trans d4 c4), c5⟩
        · rw [d1, Option.bind_some]
          show u_turn_86 (d + 3) σ2 v k = _
          rw [e_u_turn_86, w32_ok (by omega)]; exact c1
        · rw [d2, Option.bind_some]
          show m_act_167 (d' + 2) τ2 a v' k = _
          rw [e_m_act_167, w32_ok (by omega)]; exact c2
    · refine ⟨5, σ, τ, ?_, ?_, fr_refl _ _, fr_refl _ _, T, by decide⟩
      · rw [e_u_turn_30, if_pos lt, if_neg en, e_u_turn_92, if_neg en]
      · rw [e_m_act_120, ra, Option.bind_some]
        refine (if_neg (show ¬ l = -1 by omega)).trans ((if_neg (show ¬ τ fM_isEnded 0 0 = 0 by rw [t4]; exact en)).trans ?_)
        rw [e_m_act_173]
        exact if_neg (show ¬ τ fM_isEnded 0 0 = 0 by rw [t4]; exact en)
/-- a turn: the action, and the rules of every turn -/
theorem turn_J (A : AP σ τ) {a noun : Int} (ha : 0 ≤ a ∧ a < σ fW_actions 0 0) (nk : nOk σ a noun) {d d' : Nat} (hd : 82 ≤ d) (hd' : 82 ≤ d') : ∃ x σ' τ', c_u_turn d σ a noun = some (x, σ') ∧ m_act_89 d' τ a noun 1 = some (x, τ') ∧ fr tuC σ σ' ∧ fr tuM τ τ' ∧ AP σ' τ' ∧ 0 ≤ x := by
  obtain ⟨d, rfl⟩ : ∃ e, d = e + 4 := ⟨d - 4, by omega⟩
  obtain ⟨d', rfl⟩ : ∃ e, d' = e + 2 := ⟨d' - 2, by omega⟩
  obtain ⟨σ1, e1⟩ : ∃ z, z = ga_up (ga_up (ga_up (ga_up σ fU_phrases 0 0 0) fU_ends 0 0 0) fU_stops 0 0 0) fU_within 0 0 0 := ⟨_, rfl⟩
  obtain ⟨σ2, e2⟩ : ∃ z, z = ga_up σ1 fU_within 0 0 1 := ⟨_, rfl⟩
  obtain ⟨τ1, e3⟩ : ∃ z, z = ga_up (ga_up τ fM_done 0 0 0) fM_isEnded 0 0 0 := ⟨_, rfl⟩
  have f1 : fr [fU_phrases, fU_ends, fU_stops, fU_within] σ σ1 := by rw [e1]; exact fr_trans (fr_u (by decide)) (fr_trans (fr_u (by decide)) (fr_trans (fr_u (by decide)) (fr_u (by decide))))
  have f2 : fr [fU_within] σ1 σ2 := by rw [e2]; exact fr_u (by decide)
  have f12 : fr [fU_phrases, fU_ends, fU_stops, fU_within] σ σ2 := fr_trans f1 (fr_sub f2 (by decide))
  have f3 : fr [fM_done, fM_isEnded] τ τ1 := by rw [e3]; exact fr_trans (fr_u (by decide)) (fr_u (by decide))
  have A2 : AP σ2 τ1 := AP_f A f12 (by decide +kernel) f3 (by decide +kernel)
  have F2 : fr tuC σ σ2 := fr_sub f12 (by decide)
  have F3 : fr tuM τ τ1 := fr_sub f3 (by decide)
  have w1 : σ1 fU_within 0 0 = 0 := by rw [e1, up_eq]
  have p1 : σ2 fU_phrases 0 0 = 0 := by rw [f2 _ (by decide), e1, up_F (by decide), up_F (by decide), up_F (by decide), up_eq]
  have p2 : σ2 fU_ends 0 0 = 0 := by rw [f2 _ (by decide), e1, up_F (by decide), up_F (by decide), up_eq]
  have p3 : σ2 fU_stops 0 0 = 0 := by rw [f2 _ (by decide), e1, up_F (by decide), up_eq]
  have p4 : τ1 fM_done 0 0 = 0 := by rw [e3, up_F (by decide), up_eq]
  have p5 : τ1 fM_isEnded 0 0 = 0 := by rw [e3, up_eq]
  have T2 : TJ σ2 τ1 := ⟨A2, ⟨by rw [p4, p1], by rw [p1]; decide, by rw [p1]; decide⟩, ⟨by rw [p5, p2], Or.inl p2⟩, p3⟩
  obtain ⟨v, v', σ3, τ3, h1, h2, h3, h4, h5, h6, h7⟩ := AJ_mono (act_all 7 (by decide)) (show 72 ≤ d + 2 by omega) (show 72 ≤ d' + 2 by omega) σ2 τ1 T2 (by rw [e2, up_eq]; rfl) a noun (by rw [f12 _ (by decide)]; exact ha) (nOk_f nk F2)
  obtain ⟨σ4, e4⟩ : ∃ z, z = ga_up σ3 fU_within 0 0 0 := ⟨_, rfl⟩
  have f4 : fr [fU_within] σ3 σ4 := by rw [e4]; exact fr_u (by decide)
  have A4 : AP σ4 τ3 := AP_f h6.1 f4 (by decide +kernel) (fr_refl [] τ3) (by decide +kernel)
  have T4 : TJ σ4 τ3 := TJ_of h6 f4 (by decide) (fr_refl [] τ3) (by decide) A4
  have O4 := T4.1.2.2.1 3 (by decide) (by decide)
  have nn0 : 0 ≤ σ4 fU_ordered 0 3 := by rw [O4]; unfold cnS cnP; omega
  obtain ⟨x, σ5, τ5, c1, c2, c3, c4, c5⟩ := lo_3 (d := d) (d' := d') (by omega) (by omega) (a := a) (v := v) (v' := v') h3.2 (σ4 fU_ordered 0 3).toNat 0 σ4 τ3 (Int.le_refl _) (by omega) T4 (by rw [e4, up_eq]) (by rw [f4 _ (by decide)]; exact h3.1)
  refine ⟨x, σ5, τ5, ?_, ?_, fr_trans F2 (fr_trans h4 (fr_trans (fr_sub f4 (by decide)) c3)), fr_trans F3 (fr_trans h5 c4), c5.1.1, c5.2⟩
  · rw [e_u_turn, ← e1, e_u_action, w1, w32_ok (by decide), show (0 : Int) + 1 = 1 from rfl, ← e2, h1, Option.bind_some]
    show ((some (v, ga_up σ3 fU_within 0 0 (w32 (σ3 fU_within 0 0 - 1)))).bind fun q1 => u_turn_30 (d + 3) q1.2 q1.1 0) = _
    rw [h7, show w32 (8 - ((7 : Nat) : Int) - 1) = 0 by decide, Option.bind_some, ← e4]
    exact c1
  · rw [e_m_act_89, if_neg (by decide), ← e3, show c_m_action (d' + 2) τ1 a noun 1 = some (v', τ3) from h2, Option.bind_some]
    exact c2
end

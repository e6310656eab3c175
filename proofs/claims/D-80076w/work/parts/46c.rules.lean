/-! a turn, on both sides: the rules of a sort in their order -/
section
variable {σ τ : ga_S}
/-- a rule that applies has its action -/
theorem ap_act {r a noun : Int} {σ1 : ga_S} (hr : 0 ≤ r) {d : Nat} (h : c_u_applies (d + 1) σ r a noun = some (1, σ1)) : σ fQ_action r 0 = a := by
  refine Classical.byContradiction fun c => ?_
  rw [e_u_applies, nn_ok _ hr, if_neg c] at h
  injection h with h
  injection h with h _
  exact absurd h (by decide)
/-- one rule: whether it applies, and its phrases -/
theorem rule_J (T : TJ σ τ) {w : Int} (hw0 : σ fU_within 0 0 = w) (hw : 0 ≤ w ∧ w ≤ 8) {d d' : Nat} (hd : 40 ≤ d) (hd' : 41 ≤ d') (H : w < 8 → AJ2 d d' (w + 1)) {l a noun noun' : Int} (hl : 0 ≤ l ∧ l < σ fW_rules 0 0) (hs : rS σ l < 3) (nk : nOk σ a noun) (n1 : 0 ≤ σ fW_actionKinds 0 a → noun' = noun) (n2 : σ fW_actionKinds 0 a < 0 → noun' = -1) : ∃ b τ1, c_u_applies (d + 3) σ (σ fW_rule 0 l) a noun = some (b2i b, σ) ∧ c_m_applies (d' + 2) τ l a noun' = some (b2i b, τ1) ∧ fr [fM_numberLong] τ τ1 ∧ TJ σ τ1 ∧ (b = true → ∃ c σ' τ', c_u_follow (d + 3) σ (σ fW_rule 0 l) noun = some (b2i c, σ') ∧ c_m_runs (d' + 2) τ1 l noun' w = some (b2i (!c), τ') ∧ fr tuC σ σ' ∧ fr tuM τ1 τ' ∧ TJ σ' τ' ∧ σ' fU_within 0 0 = w) := by
  have TT := T
  obtain ⟨A, _⟩ := T
  have AA := A
  obtain ⟨⟨Q, _⟩, ⟨g, X⟩, _⟩ := A
  obtain ⟨_, ⟨b1, b2, b3, b4, b5, b6⟩, _, ⟨_, dw⟩, _⟩ := Q
  have rl0 := ((AP_r AA).1.2.2 l hl.1 hl.2).1
  obtain ⟨b, τ1, a1, a2, a3, a4⟩ := applies_J X ⟨b1, b2, b6.2⟩ dw hl hs (a := a) (noun := noun) (noun' := noun') (fun z => ⟨nk.1 z, n1 z⟩) (d := d + 3) (d' := d' + 2) (by omega) (by omega)
  have T1 : TJ σ τ1 := TJ_of TT (fr_refl [] σ) (by decide) a3 (by decide) (AP_nl AA a3)
  refine ⟨b, τ1, a1, a2, a3, T1, fun hb => ?_⟩
  obtain ⟨k, kO1, G, hn, he⟩ := a4 hb
  rw [hb] at a1
  have act := ap_act rl0 (show c_u_applies (d + 2 + 1) σ (σ fW_rule 0 l) a noun = some (1, σ) from a1)
  have G1 : ruG σ k σ τ1 (σ fW_rule 0 l) l := ruG_rows G (fun _ _ => rfl) (fun _ _ _ _ _ => rfl) (fun F hF => by rw [fr_no a3 (M := ruL9) (by decide) hF]) (fun i _ _ => by rw [a3 _ (by decide)]) (fun F hF j _ => by rw [fr_no a3 (M := qL) (by decide) hF]) (fun F hF j _ => by rw [fr_no a3 (M := xL) (by decide) hF]) (by rw [a3 _ (by decide)]; exact Int.le_refl _) (by rw [a3 _ (by decide)]; exact Int.le_refl _)
  have he2 : noun' = -1 ↔ k = -1 := by
    constructor
    · intro z
      refine Classical.byContradiction fun y => ?_
      have := (hn y).1.1
      have := he y
      omega
    · intro z
      obtain ⟨_, g2, _⟩ := G
      rcases g2 with ⟨y, _⟩ | ⟨_, _, ⟨u1, u2⟩, _, _, _, u⟩
      · have : rS σ l = 3 := y
        omega
      · rw [act] at u
        rcases u with ⟨_, _, _, u⟩ | ⟨u0, _, _, _, _, u⟩ | ⟨_, u0, _, _, u, _⟩
        · by_cases c : σ fW_actionKinds 0 a < 0
          · exact n2 c
          · rw [if_neg c] at u; omega
        · have := X.1.2.1.2.2.2 _ u0.1 u0.2
          omega
        · omega
  exact fol_J T1 hw0 hw hl kO1 G1 hn he he2 (by omega) (by omega) H
theorem lo_0 {w : Int} (hw : 0 ≤ w ∧ w ≤ 8) {d d' : Nat} (hd : 40 ≤ d) (hd' : 41 ≤ d') (H : w < 8 → AJ2 d d' (w + 1)) {a noun noun' : Int} : ∀ (m : Nat) (k : Int) (σ τ : ga_S), 0 ≤ k → k + m = σ fU_ordered 0 0 → TJ σ τ → σ fU_within 0 0 = w → nOk σ a noun → (0 ≤ σ fW_actionKinds 0 a → noun' = noun) → (σ fW_actionKinds 0 a < 0 → noun' = -1) → (∃ σ' τ', u_act_2 (d + 3) σ a noun k = u_act_66 (d + 3) σ' a noun ∧ m_action_19 (d' + 2) τ a noun w noun' k = m_action_78 (d' + 2) τ' a noun w noun' ∧ fr tuC σ σ' ∧ fr tuM τ τ' ∧ TJ σ' τ' ∧ σ' fU_within 0 0 = w) ∨ (∃ σ' τ', u_act_2 (d + 3) σ a noun k = some (1, σ') ∧ m_action_19 (d' + 2) τ a noun w noun' k = some (1, τ') ∧ fr tuC σ σ' ∧ fr tuM τ τ' ∧ TJ σ' τ' ∧ σ' fU_within 0 0 = w)
  | 0, k, σ, τ, h0, hk, T, hw0, nk, n1, n2 => by
    obtain ⟨R, M⟩ := AP_r T.1
    have ra := (m_ruleAt R M T.1.2.2 (s := 0) (k := k) (by decide) h0 (d := d' + 2) (by omega)).1
    rw [if_neg (by omega)] at ra
    refine Or.inl ⟨σ, τ, ?_, ?_, fr_refl _ _, fr_refl _ _, T, hw0⟩
    · rw [e_u_act_2, if_neg (by omega)]
    · rw [e_m_action_19, ra, Option.bind_some]; exact if_pos rfl
  | m + 1, k, σ, τ, h0, hk, T, hw0, nk, n1, n2 => by
    obtain ⟨R, M⟩ := AP_r T.1
    obtain ⟨ra, rr⟩ := m_ruleAt R M T.1.2.2 (s := 0) (k := k) (by decide) h0 (d := d' + 2) (by omega)
    have lt : k < σ fU_ordered 0 0 := by omega
    rw [if_pos lt] at ra
    obtain ⟨l0, l1, l2⟩ := rr lt
    have k24 : k < 24 := by
      have a1 := T.1.2.2.1 0 (by decide) (by decide)
      have a2 := cnS_le (σ := σ) 0 (σ fW_rules 0 0) R.1.1
      have a3 := R.1.2
      omega
    have r24 := R.1.2
    obtain ⟨l, el⟩ : ∃ l, l = σ fU_order 0 k := ⟨_, rfl⟩
    rw [← el] at ra l0 l1 l2
    have t4 := T.2.2.1.1
    by_cases en : σ fU_ends 0 0 = 0
    · obtain ⟨b, τ1, b1, b2, b3, b4, b5⟩ := rule_J T hw0 hw hd hd' H ⟨l0, l1⟩ (by rw [l2]; decide) nk n1 n2
      have F1 : fr tuM τ τ1 := fr_sub b3 (by decide)
      have rM : ∀ r, (if b2i b = 0 then m_action_19 (d' + 2) τ1 a noun w noun' (k + 1) else (c_m_runs (d' + 2) τ1 l noun' w).bind fun q4 => if q4.1 = 0 then m_action_19 (d' + 2) q4.2 a noun w noun' (k + 1) else some (1, q4.2)) = r → m_action_19 (d' + 2) τ a noun w noun' k = r := by
        intro r hr
        rw [e_m_action_19, ra, Option.bind_some]
        refine (if_neg (show ¬ l = -1 by omega)).trans ((if_pos (show τ fM_isEnded 0 0 = 0 by rw [t4]; exact en)).trans ?_)
        show ((c_m_ruleAt (d' + 2) τ 0 k).bind fun q2 => (c_m_applies (d' + 2) q2.2 q2.1 a noun').bind fun q3 => if q3.1 = 0 then m_action_72 (d' + 2) q3.2 a noun w noun' k else (c_m_runs (d' + 2) q3.2 q2.1 noun' w).bind fun q4 => if q4.1 = 0 then m_action_72 (d' + 2) q4.2 a noun w noun' k else some ((1 : Int), q4.2)) = _
        rw [ra, Option.bind_some]
        show ((c_m_applies (d' + 2) τ l a noun').bind fun q3 => if q3.1 = 0 then m_action_72 (d' + 2) q3.2 a noun w noun' k else (c_m_runs (d' + 2) q3.2 l noun' w).bind fun q4 => if q4.1 = 0 then m_action_72 (d' + 2) q4.2 a noun w noun' k else some ((1 : Int), q4.2)) = _
        rw [b2, Option.bind_some]
        refine Eq.trans ?_ hr
        show (if b2i b = 0 then m_action_72 (d' + 2) τ1 a noun w noun' k else (c_m_runs (d' + 2) τ1 l noun' w).bind fun q4 => if q4.1 = 0 then m_action_72 (d' + 2) q4.2 a noun w noun' k else some ((1 : Int), q4.2)) = _
        have em : ∀ z, m_action_72 (d' + 2) z a noun w noun' k = m_action_19 (d' + 2) z a noun w noun' (k + 1) := fun z => by rw [e_m_action_72, w32_ok (by omega)]
        simp only [em]
      have rC : ∀ r, (if b2i b = 0 then u_act_2 (d + 3) σ a noun (k + 1) else (c_u_follow (d + 3) σ (σ fW_rule 0 l) noun).bind fun q2 => if q2.1 = 0 then some (1, q2.2) else u_act_2 (d + 3) q2.2 a noun (k + 1)) = r → u_act_2 (d + 3) σ a noun k = r := by
        intro r hr
        rw [e_u_act_2, if_pos lt, if_pos en, ck_ok _ (by omega), ← el, ck_ok _ (by omega), b1, Option.bind_some]
        refine Eq.trans ?_ hr
        show (if b2i b = 0 then u_act_60 (d + 3) σ a noun k else (c_u_follow (d + 3) σ (σ fW_rule 0 l) noun).bind fun q2 => if q2.1 = 0 then some ((1 : Int), q2.2) else u_act_60 (d + 3) q2.2 a noun k) = _
        have eu : ∀ z, u_act_60 (d + 3) z a noun k = u_act_2 (d + 3) z a noun (k + 1) := fun z => by rw [e_u_act_60, w32_ok (by omega)]
        simp only [eu]
      cases b with
      | false =>
        have rM := rM _ (if_pos b2i_f)
        have rC := rC _ (if_pos b2i_f)
        rcases lo_0 hw hd hd' H m (k + 1) σ τ1 (by omega) (by omega) b4 hw0 nk n1 n2 with ⟨σ', τ', c1, c2, c3, c4, c5⟩ | ⟨σ', τ', c1, c2, c3, c4, c5⟩
        · exact Or.inl ⟨σ', τ', rC.trans c1, rM.trans c2, c3, fr_trans F1 c4, c5⟩
        · exact Or.inr ⟨σ', τ', rC.trans c1, rM.trans c2, c3, fr_trans F1 c4, c5⟩
      | true =>
        have rM := rM _ (if_neg b2i_n)
        have rC := rC _ (if_neg b2i_n)
        obtain ⟨c, σ2, τ2, d1, d2, d3, d4, d5, d6⟩ := b5 rfl
        rw [d2, Option.bind_some] at rM
        rw [d1, Option.bind_some] at rC
        cases c with
        | false => exact Or.inr ⟨σ2, τ2, rC.trans (if_pos b2i_f), rM.trans (if_neg b2i_n), d3, fr_trans F1 d4, d5, d6⟩
        | true =>
          have rM := rM.trans (if_pos b2i_f)
          have rC := rC.trans (if_neg b2i_n)
          rcases lo_0 hw hd hd' H m (k + 1) σ2 τ2 (by omega) (by rw [d3 _ (by decide)]; omega) d5 d6 (nOk_f nk d3) (by rw [d3 _ (by decide)]; exact n1) (by rw [d3 _ (by decide)]; exact n2) with ⟨σ', τ', c1, c2, c3, c4, c5⟩ | ⟨σ', τ', c1, c2, c3, c4, c5⟩
          · exact Or.inl ⟨σ', τ', rC.trans c1, rM.trans c2, fr_trans d3 c3, fr_trans F1 (fr_trans d4 c4), c5⟩
          · exact Or.inr ⟨σ', τ', rC.trans c1, rM.trans c2, fr_trans d3 c3, fr_trans F1 (fr_trans d4 c4), c5⟩
    · refine Or.inl ⟨σ, τ, ?_, ?_, fr_refl _ _, fr_refl _ _, T, hw0⟩
      · rw [e_u_act_2, if_pos lt, if_neg en]
      · rw [e_m_action_19, ra, Option.bind_some]
        exact (if_neg (show ¬ l = -1 by omega)).trans (if_neg (show ¬ τ fM_isEnded 0 0 = 0 by rw [t4]; exact en))
theorem lo_1 {w : Int} (hw : 0 ≤ w ∧ w ≤ 8) {d d' : Nat} (hd : 40 ≤ d) (hd' : 41 ≤ d') (H : w < 8 → AJ2 d d' (w + 1)) {a noun noun' : Int} : ∀ (m : Nat) (k : Int) (σ τ : ga_S), 0 ≤ k → k + m = σ fU_ordered 0 1 → TJ σ τ → σ fU_within 0 0 = w → nOk σ a noun → (0 ≤ σ fW_actionKinds 0 a → noun' = noun) → (σ fW_actionKinds 0 a < 0 → noun' = -1) → (∃ σ' τ', u_act_68 (d + 3) σ a noun k = u_act_130 (d + 3) σ' a noun ∧ m_action_81 (d' + 2) τ a noun w noun' k = m_action_138 (d' + 2) τ' a noun w noun' ∧ fr tuC σ σ' ∧ fr tuM τ τ' ∧ TJ σ' τ' ∧ σ' fU_within 0 0 = w) ∨ (∃ σ' τ', u_act_68 (d + 3) σ a noun k = some (2, σ') ∧ m_action_81 (d' + 2) τ a noun w noun' k = some (2, τ') ∧ fr tuC σ σ' ∧ fr tuM τ τ' ∧ TJ σ' τ' ∧ σ' fU_within 0 0 = w)
  | 0, k, σ, τ, h0, hk, T, hw0, nk, n1, n2 => by
    obtain ⟨R, M⟩ := AP_r T.1
    have ra := (m_ruleAt R M T.1.2.2 (s := 1) (k := k) (by decide) h0 (d := d' + 2) (by omega)).1
    rw [if_neg (by omega)] at ra
    refine Or.inl ⟨σ, τ, ?_, ?_, fr_refl _ _, fr_refl _ _, T, hw0⟩
    · rw [e_u_act_68, if_neg (by omega)]
    · rw [e_m_action_81, ra, Option.bind_some]; exact if_pos rfl
  | m + 1, k, σ, τ, h0, hk, T, hw0, nk, n1, n2 => by
    obtain ⟨R, M⟩ := AP_r T.1
    obtain ⟨ra, rr⟩ := m_ruleAt R M T.1.2.2 (s := 1) (k := k) (by decide) h0 (d := d' + 2) (by omega)
    have lt : k < σ fU_ordered 0 1 := by omega
    rw [if_pos lt] at ra
    obtain ⟨l0, l1, l2⟩ := rr lt
    have k24 : k < 24 := by
      have a1 := T.1.2.2.1 1 (by decide) (by decide)
      have a2 := cnS_le (σ := σ) 1 (σ fW_rules 0 0) R.1.1
      have a3 := R.1.2
      omega
    have r24 := R.1.2
    obtain ⟨l, el⟩ : ∃ l, l = σ fU_order 1 k := ⟨_, rfl⟩
    rw [← el] at ra l0 l1 l2
    have t4 := T.2.2.1.1
    by_cases en : σ fU_ends 0 0 = 0
    · obtain ⟨b, τ1, b1, b2, b3, b4, b5⟩ := rule_J T hw0 hw hd hd' H ⟨l0, l1⟩ (by rw [l2]; decide) nk n1 n2
      have F1 : fr tuM τ τ1 := fr_sub b3 (by decide)
      have rM : ∀ r, (if b2i b = 0 then m_action_81 (d' + 2) τ1 a noun w noun' (k + 1) else (c_m_runs (d' + 2) τ1 l noun' w).bind fun q4 => some (2, q4.2)) = r → m_action_81 (d' + 2) τ a noun w noun' k = r := by
        intro r hr
        rw [e_m_action_81, ra, Option.bind_some]
        refine (if_neg (show ¬ l = -1 by omega)).trans ((if_pos (show τ fM_isEnded 0 0 = 0 by rw [t4]; exact en)).trans ?_)
        show ((c_m_ruleAt (d' + 2) τ 1 k).bind fun q2 => (c_m_applies (d' + 2) q2.2 q2.1 a noun').bind fun q3 => if q3.1 = 0 then m_action_81 (d' + 2) q3.2 a noun w noun' (w32 (k + 1)) else (c_m_runs (d' + 2) q3.2 q2.1 noun' w).bind fun q4 => some ((2 : Int), q4.2)) = _
        rw [ra, Option.bind_some]
        show ((c_m_applies (d' + 2) τ l a noun').bind fun q3 => if q3.1 = 0 then m_action_81 (d' + 2) q3.2 a noun w noun' (w32 (k + 1)) else (c_m_runs (d' + 2) q3.2 l noun' w).bind fun q4 => some ((2 : Int), q4.2)) = _
        rw [b2, Option.bind_some]
        refine Eq.trans ?_ hr
        show (if b2i b = 0 then m_action_81 (d' + 2) τ1 a noun w noun' (w32 (k + 1)) else (c_m_runs (d' + 2) τ1 l noun' w).bind fun q4 => some ((2 : Int), q4.2)) = _
        rw [w32_ok (by omega)]
      have rC : ∀ r, (if b2i b = 0 then u_act_68 (d + 3) σ a noun (k + 1) else (c_u_follow (d + 3) σ (σ fW_rule 0 l) noun).bind fun q2 => some (2, q2.2)) = r → u_act_68 (d + 3) σ a noun k = r := by
        intro r hr
        rw [e_u_act_68, if_pos lt, if_pos en, ck_ok _ (by omega), ← el, ck_ok _ (by omega), b1, Option.bind_some]
        refine Eq.trans ?_ hr
        show (if b2i b = 0 then u_act_68 (d + 3) σ a noun (w32 (k + 1)) else (c_u_follow (d + 3) σ (σ fW_rule 0 l) noun).bind fun q2 => some ((2 : Int), q2.2)) = _
        rw [w32_ok (by omega)]
      cases b with
      | false =>
        have rM := rM _ (if_pos b2i_f)
        have rC := rC _ (if_pos b2i_f)
        rcases lo_1 hw hd hd' H m (k + 1) σ τ1 (by omega) (by omega) b4 hw0 nk n1 n2 with ⟨σ', τ', c1, c2, c3, c4, c5⟩ | ⟨σ', τ', c1, c2, c3, c4, c5⟩
        · exact Or.inl ⟨σ', τ', rC.trans c1, rM.trans c2, c3, fr_trans F1 c4, c5⟩
        · exact Or.inr ⟨σ', τ', rC.trans c1, rM.trans c2, c3, fr_trans F1 c4, c5⟩
      | true =>
        have rM := rM _ (if_neg b2i_n)
        have rC := rC _ (if_neg b2i_n)
        obtain ⟨c, σ2, τ2, d1, d2, d3, d4, d5, d6⟩ := b5 rfl
        rw [d2, Option.bind_some] at rM
        rw [d1, Option.bind_some] at rC
        exact Or.inr ⟨σ2, τ2, rC, rM, d3, fr_trans F1 d4, d5, d6⟩
    · refine Or.inl ⟨σ, τ, ?_, ?_, fr_refl _ _, fr_refl _ _, T, hw0⟩
      · rw [e_u_act_68, if_pos lt, if_neg en]
      · rw [e_m_action_81, ra, Option.bind_some]
        exact (if_neg (show ¬ l = -1 by omega)).trans (if_neg (show ¬ τ fM_isEnded 0 0 = 0 by rw [t4]; exact en))
theorem lo_2 {w : Int} (hw : 0 ≤ w ∧ w ≤ 8) {d d' : Nat} (hd : 40 ≤ d) (hd' : 41 ≤ d') (H : w < 8 → AJ2 d d' (w + 1)) {a noun noun' : Int} : ∀ (m : Nat) (k : Int) (σ τ : ga_S), 0 ≤ k → k + m = σ fU_ordered 0 2 → TJ σ τ → σ fU_within 0 0 = w → nOk σ a noun → (0 ≤ σ fW_actionKinds 0 a → noun' = noun) → (σ fW_actionKinds 0 a < 0 → noun' = -1) → (∃ σ' τ', u_act_150 (d + 3) σ a noun k = some (0, σ') ∧ m_action_161 (d' + 2) τ a w noun' k = some (0, τ') ∧ fr tuC σ σ' ∧ fr tuM τ τ' ∧ TJ σ' τ' ∧ σ' fU_within 0 0 = w) ∨ (∃ σ' τ', u_act_150 (d + 3) σ a noun k = some (4, σ') ∧ m_action_161 (d' + 2) τ a w noun' k = some (4, τ') ∧ fr tuC σ σ' ∧ fr tuM τ τ' ∧ TJ σ' τ' ∧ σ' fU_within 0 0 = w)
  | 0, k, σ, τ, h0, hk, T, hw0, nk, n1, n2 => by
    obtain ⟨R, M⟩ := AP_r T.1
    have ra := (m_ruleAt R M T.1.2.2 (s := 2) (k := k) (by decide) h0 (d := d' + 2) (by omega)).1
    rw [if_neg (by omega)] at ra
    refine Or.inl ⟨σ, τ, ?_, ?_, fr_refl _ _, fr_refl _ _, T, hw0⟩
    · rw [e_u_act_150, if_neg (by omega)]
    · rw [e_m_action_161, ra, Option.bind_some]; exact if_pos rfl
  | m + 1, k, σ, τ, h0, hk, T, hw0, nk, n1, n2 => by
    obtain ⟨R, M⟩ := AP_r T.1
    obtain ⟨ra, rr⟩ := m_ruleAt R M T.1.2.2 (s := 2) (k := k) (by decide) h0 (d := d' + 2) (by omega)
    have lt : k < σ fU_ordered 0 2 := by omega
    rw [if_pos lt] at ra
    obtain ⟨l0, l1, l2⟩ := rr lt
    have k24 : k < 24 := by
      have a1 := T.1.2.2.1 2 (by decide) (by decide)
      have a2 := cnS_le (σ := σ) 2 (σ fW_rules 0 0) R.1.1
      have a3 := R.1.2
      omega
    have r24 := R.1.2
    obtain ⟨l, el⟩ : ∃ l, l = σ fU_order 2 k := ⟨_, rfl⟩
    rw [← el] at ra l0 l1 l2
    have t4 := T.2.2.1.1
    by_cases en : σ fU_ends 0 0 = 0
    · obtain ⟨b, τ1, b1, b2, b3, b4, b5⟩ := rule_J T hw0 hw hd hd' H ⟨l0, l1⟩ (by rw [l2]; decide) nk n1 n2
      have F1 : fr tuM τ τ1 := fr_sub b3 (by decide)
      have rM : ∀ r, (if b2i b = 0 then m_action_161 (d' + 2) τ1 a w noun' (k + 1) else (c_m_runs (d' + 2) τ1 l noun' w).bind fun q4 => if q4.1 = 0 then m_action_161 (d' + 2) q4.2 a w noun' (k + 1) else some (4, q4.2)) = r → m_action_161 (d' + 2) τ a w noun' k = r := by
        intro r hr
        rw [e_m_action_161, ra, Option.bind_some]
        refine (if_neg (show ¬ l = -1 by omega)).trans ((if_pos (show τ fM_isEnded 0 0 = 0 by rw [t4]; exact en)).trans ?_)
        show ((c_m_ruleAt (d' + 2) τ 2 k).bind fun q2 => (c_m_applies (d' + 2) q2.2 q2.1 a noun').bind fun q3 => if q3.1 = 0 then m_action_214 (d' + 2) q3.2 a w noun' k else (c_m_runs (d' + 2) q3.2 q2.1 noun' w).bind fun q4 => if q4.1 = 0 then m_action_214 (d' + 2) q4.2 a w noun' k else some ((4 : Int), q4.2)) = _
        rw [ra, Option.bind_some]
        show ((c_m_applies (d' + 2) τ l a noun').bind fun q3 => if q3.1 = 0 then m_action_214 (d' + 2) q3.2 a w noun' k else (c_m_runs (d' + 2) q3.2 l noun' w).bind fun q4 => if q4.1 = 0 then m_action_214 (d' + 2) q4.2 a w noun' k else some ((4 : Int), q4.2)) = _
        rw [b2, Option.bind_some]
        refine Eq.trans ?_ hr
        show (if b2i b = 0 then m_action_214 (d' + 2) τ1 a w noun' k else (c_m_runs (d' + 2) τ1 l noun' w).bind fun q4 => if q4.1 = 0 then m_action_214 (d' + 2) q4.2 a w noun' k else some ((4 : Int), q4.2)) = _
        have em : ∀ z, m_action_214 (d' + 2) z a w noun' k = m_action_161 (d' + 2) z a w noun' (k + 1) := fun z => by rw [e_m_action_214, w32_ok (by omega)]
        simp only [em]
      have rC : ∀ r, (if b2i b = 0 then u_act_150 (d + 3) σ a noun (k + 1) else (c_u_follow (d + 3) σ (σ fW_rule 0 l) noun).bind fun q2 => if q2.1 = 0 then some (4, q2.2) else u_act_150 (d + 3) q2.2 a noun (k + 1)) = r → u_act_150 (d + 3) σ a noun k = r := by
        intro r hr
        rw [e_u_act_150, if_pos lt, if_pos en, ck_ok _ (by omega), ← el, ck_ok _ (by omega), b1, Option.bind_some]
        refine Eq.trans ?_ hr
        show (if b2i b = 0 then u_act_208 (d + 3) σ a noun k else (c_u_follow (d + 3) σ (σ fW_rule 0 l) noun).bind fun q2 => if q2.1 = 0 then some ((4 : Int), q2.2) else u_act_208 (d + 3) q2.2 a noun k) = _
        have eu : ∀ z, u_act_208 (d + 3) z a noun k = u_act_150 (d + 3) z a noun (k + 1) := fun z => by rw [e_u_act_208, w32_ok (by omega)]
        simp only [eu]
      cases b with
      | false =>
        have rM := rM _ (if_pos b2i_f)
        have rC := rC _ (if_pos b2i_f)
        rcases lo_2 hw hd hd' H m (k + 1) σ τ1 (by omega) (by omega) b4 hw0 nk n1 n2 with ⟨σ', τ', c1, c2, c3, c4, c5⟩ | ⟨σ', τ', c1, c2, c3, c4, c5⟩
        · exact Or.inl ⟨σ', τ', rC.trans c1, rM.trans c2, c3, fr_trans F1 c4, c5⟩
        · exact Or.inr ⟨σ', τ', rC.trans c1, rM.trans c2, c3, fr_trans F1 c4, c5⟩
      | true =>
        have rM := rM _ (if_neg b2i_n)
        have rC := rC _ (if_neg b2i_n)
        obtain ⟨c, σ2, τ2, d1, d2, d3, d4, d5, d6⟩ := b5 rfl
        rw [d2, Option.bind_some] at rM
        rw [d1, Option.bind_some] at rC
        cases c with
        | false => exact Or.inr ⟨σ2, τ2, rC.trans (if_pos b2i_f), rM.trans (if_neg b2i_n), d3, fr_trans F1 d4, d5, d6⟩
        | true =>
          have rM := rM.trans (if_pos b2i_f)
          have rC := rC.trans (if_neg b2i_n)
          rcases lo_2 hw hd hd' H m (k + 1) σ2 τ2 (by omega) (by rw [d3 _ (by decide)]; omega) d5 d6 (nOk_f nk d3) (by rw [d3 _ (by decide)]; exact n1) (by rw [d3 _ (by decide)]; exact n2) with ⟨σ', τ', c1, c2, c3, c4, c5⟩ | ⟨σ', τ', c1, c2, c3, c4, c5⟩
          · exact Or.inl ⟨σ', τ', rC.trans c1, rM.trans c2, fr_trans d3 c3, fr_trans F1 (fr_trans d4 c4), c5⟩
          · exact Or.inr ⟨σ', τ', rC.trans c1, rM.trans c2, fr_trans d3 c3, fr_trans F1 (fr_trans d4 c4), c5⟩
    · refine Or.inl ⟨σ, τ, ?_, ?_, fr_refl _ _, fr_refl _ _, T, hw0⟩
      · rw [e_u_act_150, if_pos lt, if_neg en]
      · rw [e_m_action_161, ra, Option.bind_some]
        exact (if_neg (show ¬ l = -1 by omega)).trans (if_neg (show ¬ τ fM_isEnded 0 0 = 0 by rw [t4]; exact en))
end

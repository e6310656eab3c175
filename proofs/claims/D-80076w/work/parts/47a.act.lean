/-! act(), on both sides -/
section
variable {σ τ : ga_S}
theorem q_act (A : AP σ τ) (a noun : Int) {d d' : Nat} (hd : 84 ≤ d) (hd' : 84 ≤ d') : ∃ v σ' τ', c_x_act d σ a noun = some (v, σ') ∧ c_m_act d' τ a noun = some (v, τ') ∧ fr tuC σ σ' ∧ fr tuM τ τ' ∧ AP σ' τ' ∧ -1 ≤ v := by
  obtain ⟨d, rfl⟩ : ∃ e, d = e + 1 := ⟨d - 1, by omega⟩
  obtain ⟨d', rfl⟩ : ∃ e, d' = e + 1 := ⟨d' - 1, by omega⟩
  have AA := A
  obtain ⟨_, ⟨g, X⟩, _⟩ := A
  have W := X.1
  have fo := W.1.1
  have o1 := W.2.1.1
  have o24 := W.2.1.2.1
  have Wc := W.2.2.2.2.2.2.2.2.1
  have c12 := Wc.2.1
  have c5 := Wc.1
  rw [e_x_act, e_m_act, Wc.2.2.1, w32_ok (by omega), s_m_in (by omega), Option.bind_some]
  by_cases ha : 0 ≤ a ∧ a < σ fW_actions 0 0
  · have wc := Wc.2.2.2 a ha.1 ha.2
    rw [if_neg (by omega), if_pos ha.2, ck_ok _ (by omega), decide_eq_true (show 0 ≤ a ∧ a ≤ σ fW_actions 0 0 - 1 by omega), if_neg b2i_n, ck_ok _ (by omega)]
    show ∃ v σ' τ', _ = some (v, σ') ∧ (if τ fM_actionKind 0 a = -1 then if noun = -1 then m_act_89 d' τ a noun 1 else m_act_89 d' τ a noun 0 else if τ fM_actionKind 0 a = -2 then (c_m_in d' τ noun 0 5).bind fun q4 => m_act_89 d' q4.2 a noun q4.1 else (c_m_in d' τ noun 0 (w32 (τ fM_objects 0 0 - 1))).bind fun q2 => if q2.1 = 0 then m_act_88 d' q2.2 a noun else ga_ck noun 24 ((c_m_isBelow d' q2.2 (q2.2 fM_kindOf 0 noun) (τ fM_actionKind 0 a)).bind fun q3 => if q3.1 = 0 then m_act_88 d' q3.2 a noun else m_act_89 d' q3.2 a noun 1)) = some (v, τ') ∧ fr tuC σ σ' ∧ fr tuM τ τ' ∧ AP σ' τ' ∧ -1 ≤ v
    rw [wc.2.2]
    have noC : x_act_94 d σ a noun 0 = some (-1, σ) := by rw [e_x_act_94, if_pos rfl]
    have noM : m_act_89 d' τ a noun 0 = some (-1, τ) := by rw [e_m_act_89, if_pos rfl]
    have bad : ∀ {C M : Option ga_R}, C = some (-1, σ) → M = some (-1, τ) → ∃ v σ' τ', C = some (v, σ') ∧ M = some (v, τ') ∧ fr tuC σ σ' ∧ fr tuM τ τ' ∧ AP σ' τ' ∧ -1 ≤ v := fun c m => ⟨-1, σ, τ, c, m, fr_refl _ _, fr_refl _ _, AA, Int.le_refl _⟩
    have good : nOk σ a noun → ∀ {C M : Option ga_R}, C = x_act_94 d σ a noun 1 → M = m_act_89 d' τ a noun 1 → ∃ v σ' τ', C = some (v, σ') ∧ M = some (v, τ') ∧ fr tuC σ σ' ∧ fr tuM τ τ' ∧ AP σ' τ' ∧ -1 ≤ v := by
      intro nk C M hC hM
      obtain ⟨x, σ', τ', t1, t2, t3, t4, t5, t6⟩ := turn_J AA ha nk (d := d) (d' := d') (by omega) (by omega)
      refine ⟨x, σ', τ', ?_, hM.trans t2, t3, t4, t5, by omega⟩
      rw [hC, e_x_act_94, if_neg (by decide), t1, Option.bind_some]
    by_cases k1 : σ fW_actionKinds 0 a = -1
    · rw [if_pos k1, if_pos k1]
      by_cases n1 : noun = -1
      · rw [if_pos n1, if_pos n1]
        exact good ⟨fun z => by omega, fun z => by omega⟩ rfl rfl
      · rw [if_neg n1, if_neg n1]
        exact bad noC noM
    · rw [if_neg k1, if_neg k1]
      by_cases k2 : σ fW_actionKinds 0 a = -2
      · rw [if_pos k2, if_pos k2, s_m_in (by omega), Option.bind_some]
        by_cases n6 : 0 ≤ noun ∧ noun < 6
        · rw [if_neg (by omega), if_pos n6.2, decide_eq_true (show 0 ≤ noun ∧ noun ≤ 5 by omega)]
          exact good ⟨fun z => by omega, fun _ => n6⟩ rfl rfl
        · rw [decide_eq_false (show ¬ (0 ≤ noun ∧ noun ≤ 5) by omega)]
          refine bad ?_ noM
          by_cases c : noun < 0
          · rw [if_pos c, e_x_act_65, noC]
          · rw [if_neg c, if_neg (by omega), e_x_act_65, noC]
      · rw [if_neg k2, if_neg k2, k_isObject noun (by omega), m_inO X noun (by omega), Option.bind_some, Option.bind_some]
        by_cases hn : 0 ≤ noun ∧ noun < σ fW_objects 0 0
        · have wo := W.2.1.2.2.2 noun hn.1 hn.2
          have ik := s_w_isKind (σ := σ) fo (d := d) (by omega) (o := noun) (σ fW_actionKinds 0 a) (by omega) (by omega) wo.2.1
          have mk := s_m_isBelow (τ := τ) fo W.1.2.2.2.1 (d := d') (by omega) (k := σ fW_kindOf 0 noun) (σ fW_actionKinds 0 a) (by omega) wo.2.1
          have rC : (if (b2i (decide (0 ≤ noun ∧ noun < σ fW_objects 0 0)), σ).1 = 0 then x_act_93 d (b2i (decide (0 ≤ noun ∧ noun < σ fW_objects 0 0)), σ).2 a noun else (c_w_isKind d (b2i (decide (0 ≤ noun ∧ noun < σ fW_objects 0 0)), σ).2 noun (σ fW_actionKinds 0 a)).bind fun q2 => if q2.1 = 0 then x_act_93 d q2.2 a noun else x_act_94 d q2.2 a noun 1) = (if b2i (isB (σ fW_parents 0) (σ fW_kindOf 0 noun) (σ fW_actionKinds 0 a)) = 0 then x_act_93 d σ a noun else x_act_94 d σ a noun 1) := by
            rw [decide_eq_true hn]
            refine (if_neg b2i_n).trans ?_
            show ((c_w_isKind d σ noun (σ fW_actionKinds 0 a)).bind fun q2 => if q2.1 = 0 then x_act_93 d q2.2 a noun else x_act_94 d q2.2 a noun 1) = _
            rw [ik, Option.bind_some]
          have rM : (if (b2i (decide (0 ≤ noun ∧ noun < σ fW_objects 0 0)), τ).1 = 0 then m_act_88 d' (b2i (decide (0 ≤ noun ∧ noun < σ fW_objects 0 0)), τ).2 a noun else ga_ck noun 24 ((c_m_isBelow d' (b2i (decide (0 ≤ noun ∧ noun < σ fW_objects 0 0)), τ).2 ((b2i (decide (0 ≤ noun ∧ noun < σ fW_objects 0 0)), τ).2 fM_kindOf 0 noun) (σ fW_actionKinds 0 a)).bind fun q3 => if q3.1 = 0 then m_act_88 d' q3.2 a noun else m_act_89 d' q3.2 a noun 1)) = (if b2i (isB (σ fW_parents 0) (σ fW_kindOf 0 noun) (σ fW_actionKinds 0 a)) = 0 then m_act_88 d' τ a noun else m_act_89 d' τ a noun 1) := by
            rw [decide_eq_true hn]
            refine (if_neg b2i_n).trans ?_
            show ga_ck noun 24 ((c_m_isBelow d' τ (τ fM_kindOf 0 noun) (σ fW_actionKinds 0 a)).bind fun q3 => if q3.1 = 0 then m_act_88 d' q3.2 a noun else m_act_89 d' q3.2 a noun 1) = _
            rw [ck_ok _ (by omega), wo.2.2, mk, Option.bind_some]
          cases bk : isB (σ fW_parents 0) (σ fW_kindOf 0 noun) (σ fW_actionKinds 0 a) with
          | false =>
            rw [bk, if_pos b2i_f] at rC rM
            exact bad (rC.trans ((e_x_act_93 d σ a noun).trans noC)) (rM.trans ((e_m_act_88 d' τ a noun).trans noM))
          | true =>
            rw [bk, if_neg b2i_n] at rC rM
            exact good ⟨fun _ => ⟨hn, bk⟩, fun z => by omega⟩ rC rM
        · rw [decide_eq_false hn]
          exact bad ((if_pos b2i_f).trans ((e_x_act_93 d σ a noun).trans noC)) ((if_pos b2i_f).trans ((e_m_act_88 d' τ a noun).trans noM))
  · refine ⟨-1, σ, τ, ?_, ?_, fr_refl _ _, fr_refl _ _, AA, Int.le_refl _⟩
    · by_cases c : a < 0
      · rw [if_pos c]
      · rw [if_neg c, if_neg (by omega)]
    · rw [decide_eq_false (by omega)]
      exact if_pos b2i_f
end

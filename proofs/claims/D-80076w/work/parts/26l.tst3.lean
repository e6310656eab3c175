/-! properties, values and tests, model -/
section
variable {σ0 τ0 : ga_S} {f : Int} {N : Nat}
theorem m_own {τ : ga_S} (E : E0 σ0 τ0 f N) (K : KM τ0 τ) {k p : Int} (hk : 0 ≤ k ∧ k < σ0 fW_kinds 0 0) (hp : 0 ≤ p ∧ p < σ0 fW_properties 0 0) {d : Nat} (hd : 1 ≤ d) : c_m_has d τ k p = some (b2i (own σ0 k p), τ) := by
  have wk := e0_k E
  have wp := e0_p E
  have wp2 := wp.2.1
  exact s_m_has (P := σ0 fW_parents 0) wk.1 (fun k h0 h1 => by rw [K _ (by decide)]; exact wk.2.2.2.1 k h0 h1) hd (by omega) (b := bitI (σ0 fW_propertyKinds 0 p)) (fun k h0 h1 => by rw [K _ (by decide)]; exact wp.2.2.2.2 k p h0 h1 hp.1 hp.2) (by omega) hk.2
theorem m_propertyMeant {τ : ga_S} (E : E0 σ0 τ0 f N) (K : KM τ0 τ) {c : Int} (hF : GT τ c) {ik nk v r rf rt : Int} (hI : τ fM_itKind 0 0 = ik) (hn : τ fM_nounKind 0 0 = nk) (kI : kO σ0 ik) (kN : kO σ0 nk) (hv : v = -1 ∨ thO σ0 ik nk v) (R : RU σ0 τ0 f N r rf rt) {d : Nat} (hd : 5 ≤ d) : ∃ τ', c_m_propertyMeant d τ r (mT v) = some (if v ≠ -1 ∧ prB σ0 ik nk rf rt v false = true then prN σ0 rf rt else -1, τ') ∧ fr ntM τ τ' ∧ KM τ0 τ' ∧ GT τ' (min c (if prB σ0 ik nk rf rt v false = true then 1000000 else cd σ0 rf 2)) := by
  obtain ⟨d, rfl⟩ : ∃ e, d = e + 1 := ⟨d - 1, by omega⟩
  have tr := frB_t R.2.2.2
  have pr := e0_dN E (nmT σ0 rf rt) 5
  have m5 : mxN σ0 5 = σ0 fW_properties 0 0 := rfl
  obtain ⟨p, ep⟩ : ∃ x, x = prN σ0 rf rt := ⟨_, rfl⟩
  have ep' : dN σ0 (nmT σ0 rf rt) 5 = p := ep.symm
  rw [ep'] at pr
  obtain ⟨B, eB⟩ : ∃ x, x = prB σ0 ik nk rf rt v false := ⟨_, rfl⟩
  have eB' : B = (decide (p ≠ -1) && (decide (v = -1) || own σ0 (kdT σ0 ik nk v) p)) := by
    rw [eB]; unfold prB; rw [← ep]
    simp only [Bool.not_false, Bool.true_or, Bool.and_true]
  obtain ⟨τ', g1, g2, g3, g4⟩ := m_need E K hF (t := rf) (t' := f + rf) (r := 2) (why := 4) (g := b2i B) tr rfl (by omega) (by decide) (d := d) (by omega)
  have g4' : GT τ' (min c (if B = true then 1000000 else cd σ0 rf 2)) := by
    cases B with
    | true => rw [if_neg b2i_n] at g4; rw [if_pos rfl]; exact g4
    | false => rw [if_pos b2i_f] at g4; rw [if_neg (by decide)]; exact g4
  have g38 : m_propertyMeant_38 d τ r (mT v) p (b2i B) = some (if v ≠ -1 ∧ B = true then p else -1, τ') := by
    rw [e_m_propertyMeant_38, ck_ok _ R.1, K fM_runFrom (by decide), R.2.1, g1]
    simp only [Option.bind_some]
    by_cases c1 : p = -1
    · rw [if_pos c1]
      by_cases z : v ≠ -1 ∧ B = true
      · rw [if_pos z, c1]
      · rw [if_neg z]
    · rw [if_neg c1]
      by_cases c2 : v = -1
      · rw [if_pos ((mT_9 hv).mpr c2), if_neg (fun z => z.1 c2)]
      · have tv := hv.resolve_left c2
        have kr := kdT_r E kI kN tv
        rw [if_neg (fun z => c2 ((mT_9 hv).mp z)), m_kindOfThing E g3 (by rw [g2 _ (by decide)]; exact hI) (by rw [g2 _ (by decide)]; exact hn) tv (by omega)]
        simp only [Option.bind_some]
        rw [m_own E g3 kr (by omega) (by omega)]
        simp only [Option.bind_some]
        rw [decide_eq_true (p := p ≠ -1) c1, Bool.true_and, decide_eq_false c2, Bool.false_or] at eB'
        cases q : own σ0 (kdT σ0 ik nk v) p with
        | false =>
          rw [q] at eB'
          rw [if_pos b2i_f, if_neg (fun z => by rw [eB'] at z; cases z.2)]
        | true =>
          rw [q] at eB'
          rw [if_neg b2i_n, if_pos ⟨c2, eB'⟩]
  refine ⟨τ', ?_, g2, g3, by rw [← eB]; exact g4'⟩
  rw [← eB, ← ep, e_m_propertyMeant, m_meansRun E K R.2.2.2 R.1 R.2.1 R.2.2.1 (by omega), mN_dN (s := 5) (by omega), ep']
  simp only [Option.bind_some]
  by_cases c1 : p = -1
  · rw [decide_eq_false (p := p ≠ -1) (fun z => z c1), Bool.false_and] at eB'
    rw [eB'] at g38 ⊢
    rw [if_pos c1, e_m_propertyMeant_37]
    exact g38
  · rw [if_neg c1]
    by_cases c2 : v = -1
    · rw [decide_eq_true (p := p ≠ -1) c1, Bool.true_and, decide_eq_true c2, Bool.true_or] at eB'
      rw [eB'] at g38 ⊢
      rw [if_pos ((mT_9 hv).mpr c2), e_m_propertyMeant_33]
      exact g38
    · have tv := hv.resolve_left c2
      have kr := kdT_r E kI kN tv
      rw [if_neg (fun z => c2 ((mT_9 hv).mp z)), m_kindOfThing E K hI hn tv (by omega)]
      simp only [Option.bind_some]
      rw [m_own E K kr (by omega) (by omega)]
      simp only [Option.bind_some]
      rw [decide_eq_true (p := p ≠ -1) c1, Bool.true_and, decide_eq_false c2, Bool.false_or] at eB'
      rw [← eB']
      cases B with
      | false => rw [if_pos b2i_f, e_m_propertyMeant_37]; exact g38
      | true => rw [if_neg b2i_n, e_m_propertyMeant_33]; exact g38
def nuB (σ0 : ga_S) (rf rt : Int) : Bool := decide (prN σ0 rf rt = -1) || decide (σ0 fW_propertyTypes 0 (prN σ0 rf rt) = 0)
theorem m_numberMeant {τ : ga_S} (E : E0 σ0 τ0 f N) (K : KM τ0 τ) {c : Int} (hF : GT τ c) {r rf rt : Int} (R : RU σ0 τ0 f N r rf rt) {d : Nat} (hd : 5 ≤ d) : ∃ τ', c_m_numberMeant d τ r = some (0, τ') ∧ fr ntM τ τ' ∧ KM τ0 τ' ∧ GT τ' (min c (if nuB σ0 rf rt = true then 1000000 else cd σ0 rf 2)) := by
  obtain ⟨d, rfl⟩ : ∃ e, d = e + 1 := ⟨d - 1, by omega⟩
  have tr := frB_t R.2.2.2
  have pr := e0_dN E (nmT σ0 rf rt) 5
  have m5 : mxN σ0 5 = σ0 fW_properties 0 0 := rfl
  have wp := e0_p E
  have wp2 := wp.2.1
  obtain ⟨p, ep⟩ : ∃ x, x = prN σ0 rf rt := ⟨_, rfl⟩
  have ep' : dN σ0 (nmT σ0 rf rt) 5 = p := ep.symm
  rw [ep'] at pr
  obtain ⟨B, eB⟩ : ∃ x, x = nuB σ0 rf rt := ⟨_, rfl⟩
  obtain ⟨τ', g1, g2, g3, g4⟩ := m_need E K hF (t := rf) (t' := f + rf) (r := 2) (why := 4) (g := b2i B) tr rfl (by omega) (by decide) (d := d) (by omega)
  have g4' : GT τ' (min c (if B = true then 1000000 else cd σ0 rf 2)) := by
    cases B with
    | true => rw [if_neg b2i_n] at g4; rw [if_pos rfl]; exact g4
    | false => rw [if_pos b2i_f] at g4; rw [if_neg (by decide)]; exact g4
  have g28 : m_numberMeant_28 d τ r (b2i B) = some (0, τ') := by
    rw [e_m_numberMeant_28, ck_ok _ R.1, K fM_runFrom (by decide), R.2.1, g1]; rfl
  refine ⟨τ', ?_, g2, g3, by rw [← eB]; exact g4'⟩
  have eB' : B = (decide (p = -1) || decide (σ0 fW_propertyTypes 0 p = 0)) := by rw [eB]; unfold nuB; rw [← ep]
  rw [e_m_numberMeant, m_meansRun E K R.2.2.2 R.1 R.2.1 R.2.2.1 (by omega), mN_dN (s := 5) (by omega), ep']
  simp only [Option.bind_some]
  by_cases c1 : p = -1
  · rw [decide_eq_true c1, Bool.true_or] at eB'
    rw [eB'] at g28
    rw [if_pos c1, e_m_numberMeant_23]
    exact g28
  · rw [decide_eq_false c1, Bool.false_or] at eB'
    rw [if_neg c1, ck_ok _ (by omega), K fM_propertyType (by decide), (wp.2.2.2.1 p (by omega) (by omega)).2.2]
    by_cases c2 : σ0 fW_propertyTypes 0 p = 0
    · rw [decide_eq_true c2] at eB'
      rw [eB'] at g28
      rw [if_pos c2, e_m_numberMeant_23]
      exact g28
    · rw [decide_eq_false c2] at eB'
      rw [eB'] at g28
      rw [if_neg c2]
      exact g28
theorem nu_min {c x : Int} (hx : x ≤ 1000000) (ik nk rf rt v : Int) : min (min c (if prB σ0 ik nk rf rt v false = true then 1000000 else x)) (if nuB σ0 rf rt = true then 1000000 else x) = min c (if prB σ0 ik nk rf rt v true = true then 1000000 else x) := by
  have e : prB σ0 ik nk rf rt v true = (prB σ0 ik nk rf rt v false && nuB σ0 rf rt) := by
    unfold prB nuB
    by_cases z : prN σ0 rf rt = -1
    · rw [decide_eq_false (p := prN σ0 rf rt ≠ -1) (fun y => y z)]
      simp only [Bool.false_and]
    · rw [decide_eq_true (p := prN σ0 rf rt ≠ -1) z, decide_eq_false z]
      simp only [Bool.true_and, Bool.not_true, Bool.false_or, Bool.not_false, Bool.true_or, Bool.and_true]
  rw [e]
  cases prB σ0 ik nk rf rt v false <;> cases nuB σ0 rf rt <;> simp only [Bool.and_true, Bool.and_false, Bool.true_and, Bool.false_and, if_true, if_false, Bool.false_eq_true] <;> omega
def vlRoM (σ0 : ga_S) (at' to q : Int) (τ : ga_S) : Prop := (σ0 fT_kinds 0 at' = 1 ∧ τ fM_qWhat 0 q = nuT σ0 at') ∨ (σ0 fT_kinds 0 at' = 2 ∧ τ fM_qWhat 0 q = σ0 fT_places 0 at' + 1 ∧ τ fM_qLong 0 q = σ0 fT_lengths 0 at' - 2) ∨ (σ0 fT_kinds 0 at' ≠ 1 ∧ σ0 fT_kinds 0 at' ≠ 2 ∧ τ fM_qWhat 0 q = dN σ0 (nmT σ0 at' to) 4)
def vlM : List Nat := fM_qWhat :: fM_qLong :: ntM
theorem m_whatMeant {τ : ga_S} (E : E0 σ0 τ0 f N) (K : KM τ0 τ) {c : Int} (hF : GT τ c) {q at' to r : Int} (type : Int) (hq : 0 ≤ q ∧ q < 2400) (h0 : 0 ≤ at' ∧ at' < N) (h : (σ0 fT_kinds 0 at' = 1 ∨ σ0 fT_kinds 0 at' = 2) ∨ RU σ0 τ0 f N r at' to) {d : Nat} (hd : 5 ≤ d) : ∃ τ', c_m_whatMeant d τ (f + at') r type q = some (0, τ') ∧ fr vlM τ τ' ∧ KM τ0 τ' ∧ qKp q τ τ' ∧ GT τ' (min c (if vlB σ0 type at' to = true then 1000000 else cd σ0 at' 2)) ∧ vlRoM σ0 at' to q τ' := by
  obtain ⟨d, rfl⟩ : ∃ e, d = e + 1 := ⟨d - 1, by omega⟩
  have hf := E.1.1
  have hN := E.1.2.1
  have k1 : τ0 fM_token 0 (f + at') = 4 ↔ σ0 fT_kinds 0 at' = 1 := ENV_is E.1 (k := at') (c := 1) h0.1 (by omega) (by decide)
  have k2 : τ0 fM_token 0 (f + at') = 5 ↔ σ0 fT_kinds 0 at' = 2 := ENV_is E.1 (k := at') (c := 2) h0.1 (by omega) (by decide)
  obtain ⟨τ1, e1⟩ : ∃ x, x = ga_up (ga_up τ fM_qWhat 0 q 0) fM_qLong 0 q 0 := ⟨_, rfl⟩
  have f1 : fr [fM_qWhat, fM_qLong] τ τ1 := by rw [e1]; exact fr_trans (fr_u (by decide)) (fr_u (by decide))
  have q1 : qKp q τ τ1 := by rw [e1]; exact qKp_t (qKp_u _ _ _ _) (qKp_u _ _ _ _)
  have K1 := KM_f K f1 (by decide)
  have F1 := GT_f hF f1 (by decide)
  rw [e_m_whatMeant, ck_ok _ (by omega), ck_ok _ hq, ck_ok _ hq, K fM_token (by decide), ← e1]
  have nd : ∀ p : Prop, ∀ [Decidable p], ∃ τ', c_m_need d τ1 (if p then 1 else 0) 4 (f + at') = some (0, τ') ∧ fr ntM τ1 τ' ∧ KM τ0 τ' ∧ GT τ' (min c (if p then 1000000 else cd σ0 at' 2)) := by
    intro p _
    obtain ⟨τ', g1, g2, g3, g4⟩ := m_need E K1 F1 (t := at') (t' := f + at') (r := 2) (why := 4) (g := if p then 1 else 0) (by omega) rfl (by omega) (by decide) (d := d) (by omega)
    refine ⟨τ', g1, g2, g3, ?_⟩
    by_cases z : p
    · rw [if_pos z, if_neg (by decide)] at g4
      rw [if_pos z]; exact g4
    · rw [if_neg z, if_pos rfl] at g4
      rw [if_neg z]; exact g4
  unfold vlB
  by_cases c1 : σ0 fT_kinds 0 at' = 1
  · obtain ⟨τ2, g1, g2, g3, g4⟩ := nd (type = 0)
    have nr := nuT_r E h0 c1
    have f3 : fr [fM_qWhat] τ2 (ga_up τ2 fM_qWhat 0 q (nuT σ0 at')) := fr_u (by decide)
    have eB : (if decide (type = 0) = true then (1000000 : Int) else cd σ0 at' 2) = if type = 0 then 1000000 else cd σ0 at' 2 := by
      by_cases z : type = 0
      · rw [if_pos z, if_pos (decide_eq_true z)]
      · rw [if_neg z, if_neg (fun y => z (of_decide_eq_true y))]
    rw [if_pos (k1.mpr c1), if_pos c1, eB, if_app (m_whatMeant_40 d τ1 (f + at') q), e_m_whatMeant_40, g1]
    simp only [Option.bind_some]
    rw [ck_ok _ (by omega), ck_ok _ hq, g3 fM_word (by decide), nr.2.2, w32_ok (by omega)]
    exact ⟨_, rfl, fr_trans (fr_sub f1 (by decide)) (fr_trans (fr_sub g2 (by decide)) (fr_sub f3 (by decide))), KM_f g3 f3 (by decide), qKp_t q1 (qKp_t (qKp_f g2 (by decide)) (qKp_u _ _ _ _)), GT_f g4 f3 (by decide), Or.inl ⟨c1, by rw [up_eq]⟩⟩
  · rw [if_neg (fun z => c1 (k1.mp z)), if_neg c1]
    by_cases c2 : σ0 fT_kinds 0 at' = 2
    · obtain ⟨τ2, g1, g2, g3, g4⟩ := nd (type = 1)
      have t := E.2.1.2.1 at' h0.1 (by omega)
      have u := E.2.1.2.2.2.2.2 at' h0.1 h0.2 c2
      have sz := E.2.1.1.1
      obtain ⟨τ3, e3⟩ : ∃ x, x = ga_up (ga_up τ2 fM_qWhat 0 q (σ0 fT_places 0 at' + 1)) fM_qLong 0 q (σ0 fT_lengths 0 at' - 2) := ⟨_, rfl⟩
      have f3 : fr [fM_qWhat, fM_qLong] τ2 τ3 := by rw [e3]; exact fr_trans (fr_u (by decide)) (fr_u (by decide))
      have eB : (if decide (type = 1) = true then (1000000 : Int) else cd σ0 at' 2) = if type = 1 then 1000000 else cd σ0 at' 2 := by
        by_cases z : type = 1
        · rw [if_pos z, if_pos (decide_eq_true z)]
        · rw [if_neg z, if_neg (fun y => z (of_decide_eq_true y))]
      rw [if_pos (k2.mpr c2), if_pos c2, eB, if_app (m_whatMeant_79 d τ1 (f + at') q), e_m_whatMeant_79, g1]
      simp only [Option.bind_some]
      rw [ck_ok _ (by omega), ck_ok _ hq, ck_ok _ (by omega), ck_ok _ hq, g3 fM_place (by decide), t.2.2.2, g3 fM_length (by decide), u.2.2.1, w32_ok (by omega), ← e3]
      exact ⟨τ3, rfl, fr_trans (fr_sub f1 (by decide)) (fr_trans (fr_sub g2 (by decide)) (fr_sub f3 (by decide))), KM_f g3 f3 (by decide), qKp_t q1 (qKp_t (qKp_f g2 (by decide)) (by rw [e3]; exact qKp_t (qKp_u _ _ _ _) (qKp_u _ _ _ _))), GT_f g4 f3 (by decide), Or.inr (Or.inl ⟨c2, by rw [e3, up_F (by decide), up_eq], by rw [e3, up_eq]⟩)⟩
    · have R := h.resolve_left (fun z => z.elim c1 c2)
      have r4 := e0_dN E (nmT σ0 at' to) 4
      have m4 : mxN σ0 4 = σ0 fW_values 0 0 := rfl
      have wv := e0_v E
      have wv2 := wv.2.1
      obtain ⟨v, ev⟩ : ∃ x, x = dN σ0 (nmT σ0 at' to) 4 := ⟨_, rfl⟩
      rw [← ev] at r4 ⊢
      obtain ⟨τ2, g1, g2, g3, g4⟩ := nd (v ≠ -1 ∧ σ0 fW_valueTypes 0 v = type)
      have f3 : fr [fM_qWhat] τ2 (ga_up τ2 fM_qWhat 0 q v) := fr_u (by decide)
      have eB : (if (decide (v ≠ -1) && decide (σ0 fW_valueTypes 0 v = type)) = true then (1000000 : Int) else cd σ0 at' 2) = if v ≠ -1 ∧ σ0 fW_valueTypes 0 v = type then 1000000 else cd σ0 at' 2 := by
        by_cases z : v ≠ -1 ∧ σ0 fW_valueTypes 0 v = type
        · rw [if_pos z, decide_eq_true z.1, decide_eq_true z.2, if_pos (by decide)]
        · rw [if_neg z, if_neg (fun y => z (by
            simp only [Bool.and_eq_true, decide_eq_true_eq] at y
            exact y))]
      have g147 : m_whatMeant_147 d τ1 (f + at') q v (if v ≠ -1 ∧ σ0 fW_valueTypes 0 v = type then 1 else 0) = some (0, ga_up τ2 fM_qWhat 0 q v) := by
        rw [e_m_whatMeant_147, g1]
        simp only [Option.bind_some]
        rw [ck_ok _ hq]
      rw [if_neg (fun z => c2 (k2.mp z)), if_neg c2, eB, m_meansRun E K1 R.2.2.2 R.1 R.2.1 R.2.2.1 (by omega), mN_dN (s := 4) (by omega), ← ev]
      simp only [Option.bind_some]
      refine ⟨ga_up τ2 fM_qWhat 0 q v, ?_, fr_trans (fr_sub f1 (by decide)) (fr_trans (fr_sub g2 (by decide)) (fr_sub f3 (by decide))), KM_f g3 f3 (by decide), qKp_t q1 (qKp_t (qKp_f g2 (by decide)) (qKp_u _ _ _ _)), GT_f g4 f3 (by decide), Or.inr (Or.inr ⟨c1, c2, by rw [up_eq, ← ev]⟩)⟩
      by_cases z : v = -1
      · rw [if_neg (fun y => y.1 z)] at g147
        rw [if_pos z, e_m_whatMeant_146, g147]
      · rw [if_neg z, ck_ok _ (by omega), K1 fM_valueType (by decide), (wv.2.2.2 v (by omega) (by omega)).2.2]
        by_cases y : σ0 fW_valueTypes 0 v = type
        · rw [if_pos ⟨z, y⟩] at g147
          rw [if_pos y, g147]
        · rw [if_neg (fun w => y w.2)] at g147
          rw [if_neg y, e_m_whatMeant_146, g147]
end

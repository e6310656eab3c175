/-! is(), on both sides; tests of a rule -/
section
variable {σ τ : ga_S} {g : Int}
theorem AQ_sty (A : AQ0 σ τ) : STY σ τ := ⟨A.2.1.1, A.2.1.2.1, A.2.1.2.2.2.2.2.2⟩
/-- an adjective of an object, outside of definitions -/
theorem hold_0 (X : SX σ τ g) (S : STY σ τ) (hw : σ fU_definedWithin 0 0 = 0) {o a : Int} (ho : 0 ≤ o ∧ o < σ fW_objects 0 0) (ha : 0 ≤ a ∧ a < σ fW_adjectives 0 0) {d d' : Nat} (hd : 38 ≤ d) (hd' : 38 ≤ d') : ∃ b τ', c_u_holds d σ o a = some (b2i b, σ) ∧ c_m_holds d' τ o a 0 = some (b2i b, τ') ∧ fr [fM_numberLong] τ τ' :=
  hold_J 8 (Nat.le_refl _) σ τ g X S hw o a ho ha d d' hd hd'
theorem q_is (A : AP σ τ) (o a : Int) {d : Nat} (hd : 39 ≤ d) : ∃ v τ', c_x_is d σ o a = some (v, σ) ∧ c_m_is d τ o a = some (v, τ') ∧ fr [fM_numberLong] τ τ' ∧ AP σ τ' := by
  obtain ⟨d, rfl⟩ : ∃ e, d = e + 1 := ⟨d - 1, by omega⟩
  have AA := A
  obtain ⟨⟨Q, _⟩, ⟨g, X⟩, _⟩ := A
  have W := X.1
  have fo := W.1.1
  have o24 := W.2.1.2.1
  have Wa := W.2.2.1
  have a2 := Wa.1
  have a24 := Wa.2.1
  rw [e_x_is, e_m_is, k_isObject o (by omega), m_inO X o (by omega), Option.bind_some, Option.bind_some]
  by_cases c : 0 ≤ o ∧ o < σ fW_objects 0 0
  · have wo := W.2.1.2.2.2 o c.1 c.2
    rw [decide_eq_true c, if_neg b2i_n, if_neg b2i_n]
    show ∃ v τ', (if a < 0 then some ((-1 : Int), σ) else if a < σ fW_adjectives 0 0 then ga_ck a 24 ((c_w_isKind d σ o (σ fW_adjectiveKinds 0 a)).bind fun q2 => if q2.1 = 0 then some (-1, q2.2) else (c_u_holds d q2.2 o a).bind fun q3 => if q3.1 = 0 then some (0, q3.2) else some (1, q3.2)) else some (-1, σ)) = some (v, σ) ∧ ((c_m_in d τ a 0 (w32 (τ fM_adjectives 0 0 - 1))).bind fun q2 => if q2.1 = 0 then some ((-1 : Int), q2.2) else ga_ck o 24 (ga_ck a 24 ((c_m_isBelow d q2.2 (q2.2 fM_kindOf 0 o) (q2.2 fM_adjectiveKind 0 a)).bind fun q3 => if q3.1 = 0 then some (-1, q3.2) else (c_m_holds d q3.2 o a 0).bind fun q4 => if q4.1 = 0 then some (0, q4.2) else some (1, q4.2)))) = some (v, τ') ∧ fr [fM_numberLong] τ τ' ∧ AP σ τ'
    rw [Wa.2.2.1, w32_ok (by omega), s_m_in (by omega), Option.bind_some]
    by_cases ca : 0 ≤ a ∧ a ≤ σ fW_adjectives 0 0 - 1
    · have wa := (Wa.2.2.2 a ca.1 (by omega)).1
      have kk := s_w_isKind (σ := σ) fo (d := d) (by omega) (o := o) (σ fW_adjectiveKinds 0 a) (by omega) (by omega) wo.2.1
      have mk := s_m_isBelow (τ := τ) fo W.1.2.2.2.1 (d := d) (by omega) (k := τ fM_kindOf 0 o) (σ fW_adjectiveKinds 0 a) (by rw [wo.2.2]; omega) (by rw [wo.2.2]; exact wo.2.1)
      rw [← wa.2.2] at mk
      rw [wo.2.2] at mk
      rw [decide_eq_true ca, if_neg b2i_n, if_neg (by omega), if_pos (by omega), ck_ok _ (by omega), ck_ok _ (by omega), ck_ok _ (by omega), kk, Option.bind_some]
      show ∃ v τ', _ = some (v, σ) ∧ ((c_m_isBelow d τ (τ fM_kindOf 0 o) (τ fM_adjectiveKind 0 a)).bind fun q3 => if q3.1 = 0 then some ((-1 : Int), q3.2) else (c_m_holds d q3.2 o a 0).bind fun q4 => if q4.1 = 0 then some (0, q4.2) else some (1, q4.2)) = some (v, τ') ∧ fr [fM_numberLong] τ τ' ∧ AP σ τ'
      rw [wo.2.2, mk, Option.bind_some, wa.2.2]
      cases q : isB (σ fW_parents 0) (σ fW_kindOf 0 o) (σ fW_adjectiveKinds 0 a) with
      | false =>
        rw [if_pos b2i_f, if_pos b2i_f]
        exact ⟨-1, τ, rfl, rfl, fr_refl _ _, AA⟩
      | true =>
        obtain ⟨b, τ', h1, h2, h3⟩ := hold_0 X (AQ_sty Q) Q.2.2.2.1.2 c (by omega : 0 ≤ a ∧ a < σ fW_adjectives 0 0) (d := d) (d' := d) (by omega) (by omega)
        rw [if_neg b2i_n, if_neg b2i_n]
        show ∃ v τ', ((c_u_holds d σ o a).bind fun q3 => if q3.1 = 0 then some ((0 : Int), q3.2) else some (1, q3.2)) = some (v, σ) ∧ ((c_m_holds d τ o a 0).bind fun q4 => if q4.1 = 0 then some ((0 : Int), q4.2) else some (1, q4.2)) = some (v, τ') ∧ fr [fM_numberLong] τ τ' ∧ AP σ τ'
        rw [h1, h2, Option.bind_some, Option.bind_some]
        cases b with
        | true => rw [if_neg b2i_n, if_neg b2i_n]; exact ⟨1, τ', rfl, rfl, h3, AP_nl AA h3⟩
        | false => rw [if_pos b2i_f, if_pos b2i_f]; exact ⟨0, τ', rfl, rfl, h3, AP_nl AA h3⟩
    · rw [decide_eq_false ca, if_pos b2i_f]
      by_cases c1 : a < 0
      · rw [if_pos c1]; exact ⟨-1, τ, rfl, rfl, fr_refl _ _, AA⟩
      · rw [if_neg c1, if_neg (by omega)]; exact ⟨-1, τ, rfl, rfl, fr_refl _ _, AA⟩
  · rw [decide_eq_false c, if_pos b2i_f, if_pos b2i_f]
    exact ⟨-1, τ, rfl, rfl, fr_refl _ _, AA⟩
/-- the tests of a rule, on both sides -/
theorem tests_J (X : SX σ τ g) (S : STY σ τ) (hw : σ fU_definedWithin 0 0 = 0) {l nk noun noun' : Int} (hl : 0 ≤ l ∧ l < σ fW_rules 0 0) (G : ruG σ nk σ τ (σ fW_rule 0 l) l) (hn : IVk σ nk noun) (hnn : nk ≠ -1 → noun' = noun) {d d' : Nat} (hd : 41 ≤ d) (hd' : 40 ≤ d') : ∃ b τ', c_u_tests d σ (σ fW_rule 0 l) (-1) noun = some (b2i b, σ) ∧ m_applies_140 d' τ l noun' = some (b2i b, τ') ∧ fr [fM_numberLong] τ τ' := by
  obtain ⟨d, rfl⟩ : ∃ e, d = e + 1 + 1 := ⟨d - 2, by omega⟩
  obtain ⟨d', rfl⟩ : ∃ e, d' = e + 1 := ⟨d' - 1, by omega⟩
  have rl := X.2.2.2.2.2.1
  have r24 := rl.2.1
  have tb := rl.2.2.1
  have a24 := X.1.2.2.1.2.1
  obtain ⟨r, er⟩ : ∃ r, r = σ fW_rule 0 l := ⟨_, rfl⟩
  have r0 : 0 ≤ r := by
    have := rl.1.1 l (by omega) (by omega)
    unfold sl at this
    rw [if_pos (by omega), ← er] at this
    exact this.1
  rw [← er] at G ⊢
  obtain ⟨_, _, g3, g4, g5, _, g7, _⟩ := G
  have lp : ∀ k, 0 ≤ k → ∀ υ, fr [fM_numberLong] τ υ → ∃ b' υ', u_tests_6 (d + 1) σ r (-1) noun 1 k = some (b2i b', σ) ∧ m_applies_143 (d' + 1) υ l noun' k = some (b2i b', υ') ∧ fr [fM_numberLong] τ υ' := by
    refine rg_ind (n := σ fQ_tests r 0) ?_ ?_
    · intro k hk k0 υ fu
      refine ⟨true, υ, ?_, ?_, fu⟩
      · rw [e_u_tests_6, nn_ok _ r0, if_neg (by omega), z1_ok _ (Or.inr rfl)]; rfl
      · rw [e_m_applies_143, ck_ok _ (by omega), fu fM_ruleTests (by decide), g3.1, if_neg (by omega)]; rfl
    · intro k hk ihk k0 υ fu
      have X1 : SX σ υ g := SX_f X (fr_refl [] σ) (by decide) fu (by decide)
      have S1 : STY σ υ := ⟨by rw [fu _ (by decide)]; exact S.1, S.2⟩
      have st : stT σ (-1) nk false σ υ (14 * r + k) (υ fM_ruleFrom 0 l + k) := by
        have := g7 k k0 hk
        rw [fu fM_ruleFrom (by decide)]
        exact stT_rows this (fun F hF => rfl) (fun F hF => by rw [fr_no fu (M := qL) (by decide) hF])
      obtain ⟨b1, υ1, x1, x2, x3⟩ := test_J X1 S1 (it := -1) (noun := noun) (noun' := noun') (w := 0) st (by omega) (by rw [fu fM_ruleFrom (by decide)]; omega) (fun z => absurd rfl z) hn hnn (d := d) (d' := d') (by omega) (by omega) (fun o' a' ho' ha' => hold_0 X1 S1 hw ho' ha' (by omega) (by omega))
      cases b1 with
      | false =>
        refine ⟨false, υ1, ?_, ?_, fr_trans fu x3⟩
        · rw [e_u_tests_6, nn_ok _ r0, if_pos hk, if_neg (by decide), nn_ok _ r0, nn_ok _ r0, ck_ok _ (by omega), x1, Option.bind_some, w32_ok (by omega), e_u_tests_6, nn_ok _ r0]
          by_cases c : k + 1 < σ fQ_tests r 0
          · show (if k + 1 < σ fQ_tests r 0 then _ else _) = _
            rw [if_pos c, if_pos b2i_f, z1_ok _ (b2i_01 _)]
          · show (if k + 1 < σ fQ_tests r 0 then _ else _) = _
            rw [if_neg c, z1_ok _ (b2i_01 _)]
        · rw [e_m_applies_143, ck_ok _ (by omega), fu fM_ruleTests (by decide), g3.1, if_pos hk, ck_ok _ (by omega), w32_ok (x := υ fM_ruleFrom 0 l + k) (by rw [fu fM_ruleFrom (by decide)]; omega), x2, Option.bind_some, if_pos b2i_f]; rfl
      | true =>
        obtain ⟨b3, υ3, z1, z2, z3⟩ := ihk (by omega) υ1 (fr_trans fu x3)
        refine ⟨b3, υ3, ?_, ?_, z3⟩
        · rw [e_u_tests_6, nn_ok _ r0, if_pos hk, if_neg (by decide), nn_ok _ r0, nn_ok _ r0, ck_ok _ (by omega), x1, Option.bind_some, w32_ok (by omega)]
          exact z1
        · rw [e_m_applies_143, ck_ok _ (by omega), fu fM_ruleTests (by decide), g3.1, if_pos hk, ck_ok _ (by omega), w32_ok (x := υ fM_ruleFrom 0 l + k) (by rw [fu fM_ruleFrom (by decide)]; omega), x2, Option.bind_some, if_neg b2i_n, w32_ok (by omega)]
          exact z2
  obtain ⟨b, υ, y1, y2, y3⟩ := lp 0 (Int.le_refl _) τ (fr_refl _ _)
  exact ⟨b, υ, by rw [e_u_tests]; exact y1, by rw [e_m_applies_140]; exact y2, y3⟩
end

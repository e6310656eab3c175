/-! kinds, asked on both sides -/
section
variable {σ τ : ga_S}
theorem kd_1 {g : Int} (X : SX σ τ g) {i : Int} (hi : 0 ≤ i ∧ i < σ fW_kinds 0 0) {d d' : Nat} (hd : 1 ≤ d) (hd' : 1 ≤ d') : ∀ p, 0 ≤ p → ∀ a, 0 ≤ a → a ≤ p → ∃ v, x_kind_45 d σ i 1 a p = some (v, σ) ∧ m_kind_30 d' τ i 1 a p = some (v, τ) := by
  have W := X.1
  have fo := W.1.1
  have Wp := W.2.2.2.2.2.1
  have Wa := W.2.2.1
  have en : ∀ a, x_kind_89 d σ i 1 a = some (a, σ) ∧ m_kind_68 d' τ i 1 a = some (a, τ) := by
    intro a
    rw [e_x_kind_89, e_x_kind_92, e_m_kind_68, e_m_kind_71, Wa.2.2.1, if_pos (by have := Wa.1; omega), if_neg (by decide), if_pos (by have := Wa.1; omega), if_neg (by decide), e_m_kind_114, if_neg (by decide)]
    exact ⟨rfl, rfl⟩
  refine rg_ind (n := σ fW_properties 0 0) ?_ ?_
  · intro p hp p0 a a0 a1
    refine ⟨a, ?_, ?_⟩
    · rw [e_x_kind_45, if_neg (by omega)]; exact (en a).1
    · rw [e_m_kind_30, Wp.2.2.1, if_neg (by omega)]; exact (en a).2
  · intro p hp ih p0 a a0 a1
    have p12 := Wp.2.1
    have o1 := s_w_owns (σ := σ) fo hd (k := i) (p := p) (by omega) (by omega) hi.2
    have o2 := s_m_has (τ := τ) fo W.1.2.2.2.1 hd' (p := p) (by omega) (b := fun k => bitI (σ fW_propertyKinds 0 p) k) (fun k k0 k1 => Wp.2.2.2.2 k p k0 k1 p0 hp) (k := i) (by omega) hi.2
    have o2' : c_m_has d' τ i p = some (b2i (own σ i p), τ) := o2
    rw [e_x_kind_45, if_pos hp, if_pos rfl, o1, Option.bind_some, e_m_kind_30, Wp.2.2.1, if_pos hp, if_pos rfl, o2', Option.bind_some]
    cases q : own σ i p with
    | true =>
      rw [if_neg b2i_n, if_neg b2i_n, e_x_kind_81, e_m_kind_60, w32_ok (x := a + 1) (by omega), w32_ok (x := p + 1) (by omega)]
      exact ih (by omega) (a + 1) (by omega) (by omega)
    | false =>
      rw [if_pos b2i_f, if_pos b2i_f, e_x_kind_81, e_m_kind_60, w32_ok (x := a + 0) (by omega), w32_ok (x := p + 1) (by omega)]
      exact ih (by omega) (a + 0) (by omega) (by omega)
theorem kd_2 {g : Int} (X : SX σ τ g) {i : Int} (hi : 0 ≤ i ∧ i < σ fW_kinds 0 0) {d d' : Nat} (hd : 1 ≤ d) (hd' : 1 ≤ d') : ∀ p, 0 ≤ p → ∀ a, 0 ≤ a → a ≤ p → ∃ v, x_kind_92 d σ i 2 a p = some (v, σ) ∧ m_kind_71 d' τ i 2 a p = some (v, τ) := by
  have W := X.1
  have fo := W.1.1
  have Wa := W.2.2.1
  refine rg_ind (n := σ fW_adjectives 0 0) ?_ ?_
  · intro p hp p0 a a0 a1
    refine ⟨a, ?_, ?_⟩
    · rw [e_x_kind_92, if_neg (by omega)]
    · rw [e_m_kind_71, Wa.2.2.1, if_neg (by omega), e_m_kind_114, if_neg (by decide)]
  · intro p hp ih p0 a a0 a1
    have p24 := Wa.2.1
    have wa := (Wa.2.2.2 p p0 hp).1
    have o1 := s_w_isBelow (σ := σ) fo hd (k := i) (σ fW_adjectiveKinds 0 p) (by omega) hi.2
    have o2 := s_m_isBelow (τ := τ) fo W.1.2.2.2.1 hd' (k := i) (σ fW_adjectiveKinds 0 p) (by omega) hi.2
    rw [e_x_kind_92, if_pos hp, if_pos rfl, ck_ok _ (by omega), o1, Option.bind_some, e_m_kind_71, Wa.2.2.1, if_pos hp, if_pos rfl, ck_ok _ (by omega), wa.2.2, o2, Option.bind_some]
    cases q : isB (σ fW_parents 0) i (σ fW_adjectiveKinds 0 p) with
    | true =>
      rw [if_neg b2i_n, if_neg b2i_n, e_x_kind_136, e_m_kind_106, w32_ok (x := a + 1) (by omega), w32_ok (x := p + 1) (by omega)]
      exact ih (by omega) (a + 1) (by omega) (by omega)
    | false =>
      rw [if_pos b2i_f, if_pos b2i_f, e_x_kind_136, e_m_kind_106, w32_ok (x := a + 0) (by omega), w32_ok (x := p + 1) (by omega)]
      exact ih (by omega) (a + 0) (by omega) (by omega)
theorem q_kind (A : AP σ τ) (i w : Int) {d : Nat} (hd : 2 ≤ d) : ∃ v, c_x_kind d σ i w = some (v, σ) ∧ c_m_kind d τ i w = some (v, τ) := by
  obtain ⟨d, rfl⟩ : ∃ e, d = e + 1 := ⟨d - 1, by omega⟩
  obtain ⟨_, ⟨g, X⟩, _⟩ := A
  have W := X.1
  have Wk := W.1
  have f16 := Wk.1.1
  have k5 := Wk.2.1
  have Wp := W.2.2.2.2.2.1
  have Wa := W.2.2.1
  rw [e_x_kind, e_m_kind, Wk.2.2.1, w32_ok (x := σ fW_kinds 0 0 - 1) (by omega), s_m_in (by omega), Option.bind_some]
  by_cases c : 0 ≤ i ∧ i ≤ σ fW_kinds 0 0 - 1
  · rw [decide_eq_true c, if_neg b2i_n, if_neg (by omega), if_pos (by omega), s_m_in (by omega), Option.bind_some]
    by_cases cw : 0 ≤ w ∧ w ≤ 2
    · rw [decide_eq_true cw, if_neg b2i_n, if_neg (by omega), if_neg (by omega)]
      have : w = 0 ∨ w = 1 ∨ w = 2 := by omega
      rcases this with e | e | e <;> subst e
      · rw [if_pos rfl, ck_ok _ (by omega)]
        refine ⟨_, rfl, ?_⟩
        show m_kind_30 d τ i 0 0 0 = _
        rw [e_m_kind_30, Wp.2.2.1, if_pos (by have := Wp.1; omega), if_neg (by decide), e_m_kind_68, e_m_kind_71, Wa.2.2.1, if_pos (by have := Wa.1; omega), if_neg (by decide), e_m_kind_114, if_pos rfl, ck_ok _ (by omega), Wk.2.2.2.1 i c.1 (by omega)]
      · rw [if_neg (by decide)]
        exact kd_1 X (by omega) (by omega) (by omega) 0 (Int.le_refl _) 0 (Int.le_refl _) (Int.le_refl _)
      · rw [if_neg (by decide), e_x_kind_45, if_pos (by have := Wp.1; omega), if_neg (by decide), e_x_kind_89]
        obtain ⟨v, v1, v2⟩ := kd_2 X (by omega : 0 ≤ i ∧ i < σ fW_kinds 0 0) (d := d) (d' := d) (by omega) (by omega) 0 (Int.le_refl _) 0 (Int.le_refl _) (Int.le_refl _)
        refine ⟨v, v1, ?_⟩
        show m_kind_30 d τ i 2 0 0 = _
        rw [e_m_kind_30, Wp.2.2.1, if_pos (by have := Wp.1; omega), if_neg (by decide), e_m_kind_68, v2]
    · rw [decide_eq_false cw, if_pos b2i_f]
      by_cases c1 : w < 0
      · rw [if_pos c1]; exact ⟨-1, rfl, rfl⟩
      · rw [if_neg c1, if_pos (by omega)]; exact ⟨-1, rfl, rfl⟩
  · rw [decide_eq_false c, if_pos b2i_f]
    by_cases c1 : i < 0
    · rw [if_pos c1]; exact ⟨-1, rfl, rfl⟩
    · rw [if_neg c1, if_neg (by omega)]; exact ⟨-1, rfl, rfl⟩
end

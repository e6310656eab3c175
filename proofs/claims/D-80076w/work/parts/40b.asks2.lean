/-! rules, ways and kinds, asked on both sides -/
section
variable {σ τ : ga_S}
theorem q_rule (A : AP σ τ) (i w : Int) {d : Nat} (hd : 5 ≤ d) : ∃ v, c_x_rule d σ i w = some (v, σ) ∧ c_m_rule2 d τ i w = some (v, τ) := by
  obtain ⟨d, rfl⟩ : ∃ e, d = e + 1 := ⟨d - 1, by omega⟩
  obtain ⟨RU, RMM⟩ := AP_r A
  obtain ⟨_, ⟨g, X⟩, _⟩ := A
  have rl := X.2.2.2.2.2.1
  have r24 := RU.1
  have r0 := r24.1
  have r9 := r24.2
  rw [e_x_rule, e_m_rule2, RMM.1, w32_ok (x := σ fW_rules 0 0 - 1) (by omega), s_m_in (by omega), Option.bind_some]
  by_cases c : 0 ≤ i ∧ i ≤ σ fW_rules 0 0 - 1
  · have r := RU.2.2 i c.1 (by omega)
    obtain ⟨m1, m2, m3, m4, m5⟩ := RMM.2.2 i c.1 (by omega)
    obtain ⟨nk, _, g1, g2, g3, g4, _⟩ := rl.2.2.2.2.1 i c.1 (by omega)
    have ma : τ fM_ruleAction 0 i = σ fQ_action (σ fW_rule 0 i) 0 := by
      rcases g2 with ⟨_, _, z1, z2⟩ | ⟨_, h1, _⟩
      · rw [z1.1, z2.1]
      · exact h1
    have ck : ∀ x : Option ga_R, ga_ck i 24 x = x := fun x => ck_ok _ (by omega)
    have nn : ∀ x : Option ga_R, ga_nn (σ fW_rule 0 i) x = x := fun x => nn_ok _ r.1
    rw [decide_eq_true c, if_neg b2i_n, if_neg (by omega), if_pos (by omega)]
    simp only [ck, nn]
    by_cases w0 : w < 0
    · rw [if_pos w0, if_neg (by omega), if_neg (by omega), if_neg (by omega), if_neg (by omega), if_neg (by omega), if_neg (by omega), if_neg (by omega), if_neg (by omega)]
      exact ⟨-1, rfl, rfl⟩
    · rw [if_neg w0]
      by_cases w7 : 7 < w
      · rw [if_pos w7, if_neg (by omega), if_neg (by omega), if_neg (by omega), if_neg (by omega), if_neg (by omega), if_neg (by omega), if_neg (by omega), if_neg (by omega)]
        exact ⟨-1, rfl, rfl⟩
      · rw [if_neg w7, m1, m2, m3, m4, m5, ma, g4.1]
        by_cases c0 : w = 0
        · rw [if_pos c0, if_pos c0]; exact ⟨_, rfl, rfl⟩
        rw [if_neg c0, if_neg c0]
        by_cases c1 : w = 1
        · rw [if_pos c1, if_pos c1]; exact ⟨_, rfl, rfl⟩
        rw [if_neg c1, if_neg c1]
        by_cases c2 : w = 2
        · rw [if_pos c2, if_pos c2]; exact ⟨_, rfl, rfl⟩
        rw [if_neg c2, if_neg c2]
        by_cases c3 : w = 3
        · rw [if_pos c3, if_pos c3]; exact ⟨_, rfl, rfl⟩
        rw [if_neg c3, if_neg c3]
        by_cases c4 : w = 4
        · rw [if_pos c4, if_pos c4]; exact ⟨_, rfl, rfl⟩
        rw [if_neg c4, if_neg c4]
        by_cases c5 : w = 5
        · rw [if_pos c5, if_pos c5]; exact ⟨_, rfl, rfl⟩
        rw [if_neg c5, if_neg c5]
        by_cases c6 : w = 6
        · rw [if_pos c6, if_pos c6]; exact ⟨_, rfl, rfl⟩
        rw [if_neg c6, if_neg c6, if_pos (by omega), k_placeOf RU c.1 (by omega) (by omega), Option.bind_some, m_orderOf RU RMM c.1 (by omega) (by omega), Option.bind_some]
        exact ⟨_, rfl, rfl⟩
  · rw [decide_eq_false c, if_pos b2i_f]
    by_cases c1 : i < 0
    · rw [if_pos c1]; exact ⟨-1, rfl, rfl⟩
    · rw [if_neg c1, if_neg (by omega)]; exact ⟨-1, rfl, rfl⟩
theorem ix2 (a b : Int) (a0 : 0 ≤ a) (a1 : a < 6) (b0 : 0 ≤ b) (b1 : b < 6) : ga_ixor a 1 = b ↔ a = ga_ixor b 1 := by
  have ha : a = 0 ∨ a = 1 ∨ a = 2 ∨ a = 3 ∨ a = 4 ∨ a = 5 := by omega
  have hb : b = 0 ∨ b = 1 ∨ b = 2 ∨ b = 3 ∨ b = 4 ∨ b = 5 := by omega
  rcases ha with e | e | e | e | e | e <;> subst e <;> rcases hb with e | e | e | e | e | e <;> subst e <;> decide
theorem ways_144 {ρ υ : ga_S} (R : RWy ρ υ) (ho : ρ fW_objects 0 0 ≤ 24) : ρ fW_toldWays 0 0 ≤ 144 := by
  refine Classical.byContradiction fun z => ?_
  obtain ⟨⟨q0, _⟩, q2, q3, _⟩ := R
  have p := pigeon 144 145 (fun i => (6 * ρ fW_wayFrom 0 i + ρ fW_wayBy 0 i).toNat) (fun i hi => by
    show (6 * ρ fW_wayFrom 0 i + ρ fW_wayBy 0 i).toNat < 144
    have := q2 i (by omega) (by omega); omega) (fun i j hi hj e => by
    have e' : (6 * ρ fW_wayFrom 0 i + ρ fW_wayBy 0 i).toNat = (6 * ρ fW_wayFrom 0 j + ρ fW_wayBy 0 j).toNat := e
    have a := q2 i (by omega) (by omega)
    have a2 := q2 j (by omega) (by omega)
    have := q3 i j (by omega) (by omega) (by omega) (by omega) (by omega) (by omega)
    omega)
  omega
/-- where a way leads to -/
theorem ld_M {g : Int} (X : SX σ τ g) (o b : Int) (hb : 0 ≤ b ∧ b < 6) (d : Nat) : ∀ i, 0 ≤ i → (∃ k, i ≤ k ∧ k < σ fW_toldWays 0 0 ∧ σ fW_wayFrom 0 k = o ∧ σ fW_wayBy 0 k = b ∧ m_leadsTo_2 d τ o b i = some (σ fW_ways o b, τ)) ∨ ((∀ k, i ≤ k → k < σ fW_toldWays 0 0 → ¬ (σ fW_wayFrom 0 k = o ∧ σ fW_wayBy 0 k = b)) ∧ m_leadsTo_2 d τ o b i = m_leadsTo_45 d τ o b 0) := by
  have Ry := X.2.1.2.2.2.1
  have o24 := X.1.2.1.2.1
  have t144 := ways_144 Ry o24
  refine rg_ind (n := σ fW_toldWays 0 0) ?_ ?_
  · intro i h h0
    refine Or.inr ⟨fun k k0 k1 => by omega, ?_⟩
    rw [e_m_leadsTo_2, Ry.1.2, if_neg (by omega)]
  · intro i h ih h0
    have w := Ry.2.1 i h0 h
    have ck : ∀ x : Option ga_R, ga_ck i 200 x = x := fun x => ck_ok _ (by omega)
    have nx : m_leadsTo_37 d τ o b i = m_leadsTo_2 d τ o b (i + 1) := by rw [e_m_leadsTo_37, w32_ok (by omega)]
    by_cases c : σ fW_wayFrom 0 i = o ∧ σ fW_wayBy 0 i = b
    · refine Or.inl ⟨i, Int.le_refl _, h, c.1, c.2, ?_⟩
      rw [e_m_leadsTo_2, Ry.1.2, if_pos h]
      simp only [ck]
      rw [w.2.2.1, if_pos c.1, w.2.2.2.1, if_pos c.2, w.2.2.2.2.1, c.1, c.2]
    · have st : m_leadsTo_2 d τ o b i = m_leadsTo_2 d τ o b (i + 1) := by
        rw [← nx, e_m_leadsTo_2, Ry.1.2, if_pos h]
        simp only [ck]
        rw [w.2.2.1, w.2.2.2.1]
        by_cases c1 : σ fW_wayFrom 0 i = o
        · rw [if_pos c1, if_neg (fun z => c ⟨c1, z⟩)]
        · rw [if_neg c1]
      rw [st]
      rcases ih (by omega) with ⟨k, k0, k1, k2⟩ | ⟨k0, k1⟩
      · exact Or.inl ⟨k, by omega, k1, k2⟩
      · refine Or.inr ⟨fun k z0 z1 => ?_, k1⟩
        by_cases e : k = i
        · rw [e]; exact c
        · exact k0 k (by omega) z1
theorem ld_2 {g : Int} (X : SX σ τ g) (o b : Int) (hb : 0 ≤ b ∧ b < 6) (d d' : Nat) : ∀ i, 0 ≤ i → ∃ v, w_leads_23 d σ o b i = some (v, σ) ∧ m_leadsTo_45 d' τ o b i = some (v, τ) ∧ (v = -1 ∨ ((0 ≤ v ∧ v < σ fW_objects 0 0) ∧ isB (σ fW_parents 0) (σ fW_kindOf 0 v) 1 = true ∧ isB (σ fW_parents 0) (σ fW_kindOf 0 o) 1 = true)) := by
  have Ry := X.2.1.2.2.2.1
  have o24 := X.1.2.1.2.1
  have t144 := ways_144 Ry o24
  refine rg_ind (n := σ fW_toldWays 0 0) ?_ ?_
  · intro i h h0
    exact ⟨-1, by rw [e_w_leads_23, if_neg (by omega)], by rw [e_m_leadsTo_45, Ry.1.2, if_neg (by omega)], Or.inl rfl⟩
  · intro i h ih h0
    have w := Ry.2.1 i h0 h
    have ckc : ∀ x : Option ga_R, ga_ck i 144 x = x := fun x => ck_ok _ (by omega)
    have ckm : ∀ x : Option ga_R, ga_ck i 200 x = x := fun x => ck_ok _ (by omega)
    obtain ⟨v, v1, v2, v3⟩ := ih (by omega)
    have rC := e_w_leads_23 d σ o b i
    rw [if_pos h, ck_ok _ (by omega : 0 ≤ i ∧ i < 144), ck_ok _ (by omega : 0 ≤ σ fW_wayFrom 0 i ∧ σ fW_wayFrom 0 i < 24)] at rC
    simp only [ckc] at rC
    rw [nn_ok _ w.1.1, ck_ok _ w.2.1, e_w_leads_72, w32_ok (by omega)] at rC
    have rM := e_m_leadsTo_45 d' τ o b i
    rw [Ry.1.2, if_pos h] at rM
    simp only [ckm] at rM
    rw [w.2.2.2.2.1, w.2.2.2.1, w.2.2.1, e_m_leadsTo_82, w32_ok (by omega)] at rM
    have ix := ix2 _ b w.2.1.1 w.2.1.2 hb.1 hb.2
    by_cases c : σ fW_ways (σ fW_wayFrom 0 i) (σ fW_wayBy 0 i) = o
    · rw [if_pos c] at rC rM
      by_cases c2 : ga_ixor (σ fW_wayBy 0 i) 1 = b
      · have c3 := ix.mp c2
        rw [if_pos c2] at rC
        rw [if_pos c3] at rM
        refine ⟨σ fW_wayFrom 0 i, rC, rM, Or.inr ⟨w.1, w.2.2.2.2.2.2.2.1, ?_⟩⟩
        rw [← c]; exact w.2.2.2.2.2.2.2.2
      · have c3 := fun z => c2 (ix.mpr z)
        rw [if_neg c2] at rC
        rw [if_neg c3] at rM
        exact ⟨v, rC.trans v1, rM.trans v2, v3⟩
    · rw [if_neg c] at rC rM
      exact ⟨v, rC.trans v1, rM.trans v2, v3⟩
/-- where a way leads to, on both sides -/
theorem ld_J {g : Int} (X : SX σ τ g) {o b : Int} (ho : 0 ≤ o ∧ o < σ fW_objects 0 0) (hb : 0 ≤ b ∧ b < 6) {d d' : Nat} (hd : 1 ≤ d) (hd' : 1 ≤ d') : ∃ v, c_w_leads d σ o b = some (v, σ) ∧ c_m_leadsTo d' τ o b = some (v, τ) ∧ (v = -1 ∨ ((0 ≤ v ∧ v < σ fW_objects 0 0) ∧ isB (σ fW_parents 0) (σ fW_kindOf 0 v) 1 = true ∧ isB (σ fW_parents 0) (σ fW_kindOf 0 o) 1 = true)) := by
  obtain ⟨d, rfl⟩ : ∃ e, d = e + 1 := ⟨d - 1, by omega⟩
  obtain ⟨d', rfl⟩ : ∃ e, d' = e + 1 := ⟨d' - 1, by omega⟩
  have Ry := X.2.1.2.2.2.1
  have o24 := X.1.2.1.2.1
  rw [e_w_leads, e_m_leadsTo, ck_ok _ (by omega), nn_ok _ ho.1, ck_ok _ hb, ck_ok _ (by omega), nn_ok _ ho.1, ck_ok _ hb]
  rcases ld_M X o b hb d' 0 (Int.le_refl _) with ⟨k, k0, k1, k2, k3, k4⟩ | ⟨k0, k1⟩
  · have w := Ry.2.1 k k0 k1
    rw [k2, k3] at w
    rw [if_neg (by omega), k4]
    exact ⟨_, rfl, rfl, Or.inr ⟨⟨w.2.2.2.2.2.1, w.2.2.2.2.2.2.1⟩, w.2.2.2.2.2.2.2.2, w.2.2.2.2.2.2.2.1⟩⟩
  · have e : σ fW_ways o b = -1 := by
      rcases Ry.2.2.2 o b ho.1 ho.2 hb.1 hb.2 with z | ⟨k, z0, z1, z2, z3⟩
      · exact z
      · exact absurd ⟨z2, z3⟩ (k0 k z0 z1)
    rw [if_pos e, k1]
    exact ld_2 X o b hb d d' 0 (Int.le_refl _)
theorem q_leads (A : AP σ τ) (o b : Int) {d : Nat} (hd : 4 ≤ d) : ∃ v, c_x_leads d σ o b = some (v, σ) ∧ c_m_leads d τ o b = some (v, τ) := by
  obtain ⟨d, rfl⟩ : ∃ e, d = e + 1 := ⟨d - 1, by omega⟩
  obtain ⟨_, ⟨g, X⟩, _⟩ := A
  have wo := X.1.2.1
  have o24 := wo.2.1
  rw [e_x_leads, e_m_leads, k_isObject o (by omega), Option.bind_some]
  rw [show c_m_in d τ o 0 (w32 (τ fM_objects 0 0 - 1)) = _ from m_inO X o (by omega), Option.bind_some]
  by_cases c : 0 ≤ o ∧ o < σ fW_objects 0 0
  · rw [decide_eq_true c, if_neg b2i_n, if_neg b2i_n, s_m_in (by omega), Option.bind_some]
    by_cases cb : 0 ≤ b ∧ b ≤ 5
    · have kk := s_w_isKind (σ := σ) X.1.1.1 (d := d) (by omega) (o := o) 1 (by omega) (by have := wo.2.2.2 o c.1 c.2; omega) (wo.2.2.2 o c.1 c.2).2.1
      rw [decide_eq_true cb, if_neg b2i_n, if_neg (by omega), if_pos (by omega), kk, Option.bind_some]
      obtain ⟨v, v1, v2, v3⟩ := ld_J X c (by omega : 0 ≤ b ∧ b < 6) (d := d) (d' := d) (by omega) (by omega)
      rw [show c_m_leadsTo d τ o b = some (v, τ) from v2, Option.bind_some]
      cases q : isB (σ fW_parents 0) (σ fW_kindOf 0 o) 1 with
      | true =>
        rw [if_neg b2i_n, show c_w_leads d σ o b = some (v, σ) from v1, Option.bind_some]
        exact ⟨v, rfl, rfl⟩
      | false =>
        rw [if_pos b2i_f, e_x_leads_30]
        rcases v3 with z | z
        · rw [z]; exact ⟨-1, rfl, rfl⟩
        · have := z.2.2
          rw [q] at this
          exact absurd this (by decide)
    · rw [decide_eq_false cb, if_pos b2i_f]
      by_cases c1 : b < 0
      · rw [if_pos c1, e_x_leads_30]; exact ⟨-1, rfl, rfl⟩
      · rw [if_neg c1, if_neg (by omega), e_x_leads_30]; exact ⟨-1, rfl, rfl⟩
  · rw [decide_eq_false c, if_pos b2i_f, if_pos b2i_f, e_x_leads_30]
    exact ⟨-1, rfl, rfl⟩
end

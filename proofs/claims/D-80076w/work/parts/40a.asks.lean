/-! what is told, asked on both sides -/
theorem ORD_f {σ σ' : ga_S} (O : ORD σ) {L : List Nat} (f : fr L σ σ') (hL : (fU_order :: fU_ordered :: [fW_rules, fW_rule, fQ_sort, fQ_object, fQ_kind, fQ_adjectives, fQ_tests, fW_parents]).all (fun F => !(L.contains F)) = true) : ORD σ' := by
  have c := fun F hF => fr_no f hL (F := F) hF
  unfold ORD cnS plc plP ahd nar rT rS at O ⊢
  rw [c fU_order (by decide), c fU_ordered (by decide), c fW_rules (by decide), c fW_rule (by decide), c fQ_sort (by decide), c fQ_object (by decide), c fQ_kind (by decide), c fQ_adjectives (by decide), c fQ_tests (by decide), c fW_parents (by decide)]
  exact O
section
variable {σ τ : ga_S}
/-- how many there are -/
def mny (σ : ga_S) (w : Int) : Int := if w = 0 then σ fW_kinds 0 0 else if w = 1 then σ fW_types 0 0 else if w = 2 then σ fW_objects 0 0 else if w = 3 then σ fW_adjectives 0 0 else if w = 4 then σ fW_values 0 0 else if w = 5 then σ fW_properties 0 0 else if w = 6 then σ fW_relations 0 0 else if w = 7 then σ fW_verbs 0 0 else if w = 8 then σ fW_actions 0 0 else if w = 9 then σ fW_rules 0 0 else if w = 10 then σ fW_commands 0 0 else -1
theorem k_many (w : Int) {d : Nat} (hd : 1 ≤ d) : c_x_many d σ w = some (mny σ w, σ) := by
  obtain ⟨d, rfl⟩ : ∃ e, d = e + 1 := ⟨d - 1, by omega⟩
  unfold mny
  rw [e_x_many]
  by_cases c0 : w = 0
  · rw [if_pos c0, if_pos c0]
  rw [if_neg c0, if_neg c0]
  by_cases c1 : w = 1
  · rw [if_pos c1, if_pos c1]
  rw [if_neg c1, if_neg c1]
  by_cases c2 : w = 2
  · rw [if_pos c2, if_pos c2]
  rw [if_neg c2, if_neg c2]
  by_cases c3 : w = 3
  · rw [if_pos c3, if_pos c3]
  rw [if_neg c3, if_neg c3]
  by_cases c4 : w = 4
  · rw [if_pos c4, if_pos c4]
  rw [if_neg c4, if_neg c4]
  by_cases c5 : w = 5
  · rw [if_pos c5, if_pos c5]
  rw [if_neg c5, if_neg c5]
  by_cases c6 : w = 6
  · rw [if_pos c6, if_pos c6]
  rw [if_neg c6, if_neg c6]
  by_cases c7 : w = 7
  · rw [if_pos c7, if_pos c7]
  rw [if_neg c7, if_neg c7]
  by_cases c8 : w = 8
  · rw [if_pos c8, if_pos c8]
  rw [if_neg c8, if_neg c8]
  by_cases c9 : w = 9
  · rw [if_pos c9, if_pos c9]
  rw [if_neg c9, if_neg c9]
  by_cases c10 : w = 10
  · rw [if_pos c10, if_pos c10]
  rw [if_neg c10, if_neg c10]
theorem m_told {g : Int} (X : SX σ τ g) (w : Int) {d : Nat} (hd : 1 ≤ d) : c_m_told d τ w = some (mny σ w, τ) := by
  obtain ⟨d, rfl⟩ : ∃ e, d = e + 1 := ⟨d - 1, by omega⟩
  obtain ⟨W, _, _, _, _, rl, cw, _⟩ := X
  unfold mny
  rw [e_m_told]
  by_cases c0 : w = 0
  · rw [if_pos c0, if_pos c0, show τ fM_kinds 0 0 = σ fW_kinds 0 0 from W.1.2.2.1]
  rw [if_neg c0, if_neg c0]
  by_cases c1 : w = 1
  · rw [if_pos c1, if_pos c1, show τ fM_types 0 0 = σ fW_types 0 0 from W.2.2.2.1.2.2.1]
  rw [if_neg c1, if_neg c1]
  by_cases c2 : w = 2
  · rw [if_pos c2, if_pos c2, show τ fM_objects 0 0 = σ fW_objects 0 0 from W.2.1.2.2.1]
  rw [if_neg c2, if_neg c2]
  by_cases c3 : w = 3
  · rw [if_pos c3, if_pos c3, show τ fM_adjectives 0 0 = σ fW_adjectives 0 0 from W.2.2.1.2.2.1]
  rw [if_neg c3, if_neg c3]
  by_cases c4 : w = 4
  · rw [if_pos c4, if_pos c4, show τ fM_values 0 0 = σ fW_values 0 0 from W.2.2.2.2.1.2.2.1]
  rw [if_neg c4, if_neg c4]
  by_cases c5 : w = 5
  · rw [if_pos c5, if_pos c5, show τ fM_properties 0 0 = σ fW_properties 0 0 from W.2.2.2.2.2.1.2.2.1]
  rw [if_neg c5, if_neg c5]
  by_cases c6 : w = 6
  · rw [if_pos c6, if_pos c6, show τ fM_relations 0 0 = σ fW_relations 0 0 from W.2.2.2.2.2.2.1.2.2.1]
  rw [if_neg c6, if_neg c6]
  by_cases c7 : w = 7
  · rw [if_pos c7, if_pos c7, show τ fM_verbs 0 0 = σ fW_verbs 0 0 from W.2.2.2.2.2.2.2.1.2.2.1]
  rw [if_neg c7, if_neg c7]
  by_cases c8 : w = 8
  · rw [if_pos c8, if_pos c8, show τ fM_actions 0 0 = σ fW_actions 0 0 from W.2.2.2.2.2.2.2.2.1.2.2.1]
  rw [if_neg c8, if_neg c8]
  by_cases c9 : w = 9
  · rw [if_pos c9, if_pos c9, show τ fM_rules 0 0 = σ fW_rules 0 0 from rl.2.1.1]
  rw [if_neg c9, if_neg c9]
  by_cases c10 : w = 10
  · rw [if_pos c10, if_pos c10, show τ fM_commands 0 0 = σ fW_commands 0 0 from cw.1.1]
  rw [if_neg c10, if_neg c10]
theorem q_told (A : AP σ τ) (w : Int) {d : Nat} (hd : 2 ≤ d) : ∃ v, c_x_told d σ w = some (v, σ) ∧ c_m_told d τ w = some (v, τ) := by
  obtain ⟨d, rfl⟩ : ∃ e, d = e + 1 := ⟨d - 1, by omega⟩
  obtain ⟨_, ⟨g, X⟩, _⟩ := A
  exact ⟨mny σ w, by rw [e_x_told, k_many w (by omega), Option.bind_some], m_told X w (by omega)⟩
theorem q_fault (A : AP σ τ) {d : Nat} (hd : 1 ≤ d) : ∃ v, c_x_fault d σ = some (v, σ) ∧ c_m_fault d τ = some (v, τ) := by
  obtain ⟨d, rfl⟩ : ∃ e, d = e + 1 := ⟨d - 1, by omega⟩
  exact ⟨σ fR_fault 0 0, by rw [e_x_fault], by rw [e_m_fault, A.1.2.2.2]⟩
theorem q_outs (A : AP σ τ) {d : Nat} (hd : 1 ≤ d) : ∃ v, c_x_outs d σ = some (v, σ) ∧ c_m_outs d τ = some (v, τ) := by
  obtain ⟨d, rfl⟩ : ∃ e, d = e + 1 := ⟨d - 1, by omega⟩
  exact ⟨σ fU_outs 0 0, by rw [e_x_outs], by rw [e_m_outs, A.1.1.2.2.2.2.1]⟩
theorem q_out (A : AP σ τ) (i : Int) {d : Nat} (hd : 2 ≤ d) : ∃ v, c_x_out d σ i = some (v, σ) ∧ c_m_out d τ i = some (v, τ) := by
  obtain ⟨d, rfl⟩ : ∃ e, d = e + 1 := ⟨d - 1, by omega⟩
  obtain ⟨o1, o2, o3⟩ := A.1.1.2.2.2.2
  rw [e_x_out, e_m_out, o1, w32_ok (by omega), s_m_in (by omega), Option.bind_some]
  by_cases c : 0 ≤ i ∧ i ≤ σ fU_outs 0 0 - 1
  · rw [decide_eq_true c, if_neg b2i_n, if_neg (by omega), if_pos (by omega), ck_ok _ (by omega), ck_ok _ (by omega)]
    refine ⟨ga_iand (σ fU_out 0 i) 255, rfl, ?_⟩
    show some (ga_iand (τ fM_out 0 i) 255, τ) = _
    rw [o3 i c.1 (by omega)]
  · rw [decide_eq_false c, if_pos b2i_f]
    by_cases c1 : i < 0
    · rw [if_pos c1, e_x_out_15]; exact ⟨-1, rfl, rfl⟩
    · rw [if_neg c1, if_neg (by omega), e_x_out_15]; exact ⟨-1, rfl, rfl⟩
/-- what is out is taken away -/
theorem q_clear (A : AP σ τ) {d : Nat} (hd : 1 ≤ d) : ∃ v σ' τ', c_x_clear d σ = some (v, σ') ∧ c_m_clear d τ = some (v, τ') ∧ fr [fU_outs] σ σ' ∧ fr [fM_outSize] τ τ' ∧ AP σ' τ' := by
  obtain ⟨d, rfl⟩ : ∃ e, d = e + 1 := ⟨d - 1, by omega⟩
  obtain ⟨⟨⟨q1, q2, q3, q4, o1, o2, o3⟩, al, dr, ft⟩, ⟨g, X⟩, O⟩ := A
  obtain ⟨σ', es⟩ : ∃ x, x = ga_up σ fU_outs 0 0 0 := ⟨_, rfl⟩
  obtain ⟨τ', et⟩ : ∃ x, x = ga_up τ fM_outSize 0 0 0 := ⟨_, rfl⟩
  have f1 : fr [fU_outs] σ σ' := by rw [es]; exact fr_u (by decide)
  have f2 : fr [fM_outSize] τ τ' := by rw [et]; exact fr_u (by decide)
  refine ⟨σ fU_outs 0 0, σ', τ', by rw [e_x_clear, es], by rw [e_m_clear, o1, et], f1, f2, ⟨⟨?_, ?_, ?_, ?_, ?_⟩, by rw [f1 _ (by decide)]; exact al, by rw [f2 _ (by decide)]; exact dr, by rw [f2 _ (by decide), f1 _ (by decide)]; exact ft⟩, ⟨g, SX_f X f1 (by decide) f2 (by decide)⟩, ?_⟩
  · rw [f1 _ (by decide), f1 _ (by decide), f2 _ (by decide), f2 _ (by decide)]; exact q1
  · unfold byteR at q2 ⊢
    rw [f1 _ (by decide), f1 _ (by decide), f2 _ (by decide), f2 _ (by decide)]; exact q2
  · unfold rAll at q3 ⊢
    rw [f1 _ (by decide), f1 _ (by decide)]; exact q3
  · unfold rKeys at q4 ⊢
    rw [f1 _ (by decide), f2 _ (by decide)]; exact q4
  · have z : σ' fU_outs 0 0 = 0 := by rw [es, up_eq]
    rw [z]
    exact ⟨by rw [et, up_eq], by decide, fun i x y => by omega⟩
  · exact ORD_f O f1 (by decide)
theorem q_wipe (A : AP σ τ) {d : Nat} (hd : 1 ≤ d) : ∃ v σ' τ', c_x_wipe d σ = some (v, σ') ∧ c_m_wipe d τ = some (v, τ') ∧ fr [fX_taped] σ σ' ∧ fr [fM_size] τ τ' ∧ AP σ' τ' := by
  obtain ⟨d, rfl⟩ : ∃ e, d = e + 1 := ⟨d - 1, by omega⟩
  obtain ⟨⟨⟨⟨t1, t2, t3, t4⟩, q2, q3, q4, q5⟩, al, dr, ft⟩, ⟨g, X⟩, O⟩ := A
  obtain ⟨σ', es⟩ : ∃ x, x = ga_up σ fX_taped 0 0 0 := ⟨_, rfl⟩
  obtain ⟨τ', et⟩ : ∃ x, x = ga_up τ fM_size 0 0 0 := ⟨_, rfl⟩
  have f1 : fr [fX_taped] σ σ' := by rw [es]; exact fr_u (by decide)
  have f2 : fr [fM_size] τ τ' := by rw [et]; exact fr_u (by decide)
  have z : σ' fX_taped 0 0 = 0 := by rw [es, up_eq]
  refine ⟨σ fX_taped 0 0, σ', τ', by rw [e_x_wipe, es], by rw [e_m_wipe, t2, et], f1, f2, ⟨⟨⟨?_, ?_, ?_, ?_⟩, ?_, ?_, ?_, ?_⟩, by rw [f1 _ (by decide)]; exact al, by rw [f2 _ (by decide)]; exact dr, by rw [f2 _ (by decide), f1 _ (by decide)]; exact ft⟩, ⟨g, SX_f X f1 (by decide) f2 (by decide)⟩, ORD_f O f1 (by decide)⟩
  · rw [f1 _ (by decide), f2 _ (by decide)]; exact t1
  · rw [et, up_eq, z]
  · rw [z]; decide
  · rw [f1 _ (by decide)]; exact t4
  · unfold byteR at q2 ⊢
    rw [f1 _ (by decide), f1 _ (by decide), f2 _ (by decide), f2 _ (by decide)]; exact q2
  · unfold rAll at q3 ⊢
    rw [f1 _ (by decide), f1 _ (by decide)]; exact q3
  · unfold rKeys at q4 ⊢
    rw [f1 _ (by decide), f2 _ (by decide)]; exact q4
  · rw [f1 _ (by decide), f1 _ (by decide), f2 _ (by decide), f2 _ (by decide)]; exact q5
theorem k_isObject (o : Int) {d : Nat} (hd : 1 ≤ d) : c_x_isObject d σ o = some (b2i (decide (0 ≤ o ∧ o < σ fW_objects 0 0)), σ) := by
  obtain ⟨d, rfl⟩ : ∃ e, d = e + 1 := ⟨d - 1, by omega⟩
  rw [e_x_isObject]
  by_cases c : o < 0
  · rw [if_pos c, decide_eq_false (by omega)]; rfl
  · rw [if_neg c]
    by_cases c2 : o < σ fW_objects 0 0
    · rw [if_pos c2, decide_eq_true (by omega)]; rfl
    · rw [if_neg c2, decide_eq_false (by omega)]; rfl
theorem m_inO {g : Int} (X : SX σ τ g) (o : Int) {d : Nat} (hd : 1 ≤ d) : c_m_in d τ o 0 (w32 (τ fM_objects 0 0 - 1)) = some (b2i (decide (0 ≤ o ∧ o < σ fW_objects 0 0)), τ) := by
  have wo := X.1.2.1
  have w1 := wo.1
  have w2 := wo.2.1
  rw [wo.2.2.1, w32_ok (by omega), s_m_in hd]
  congr 3
  exact decide_eq_decide.mpr (by omega)
theorem q_object (A : AP σ τ) (i w : Int) {d : Nat} (hd : 2 ≤ d) : ∃ v, c_x_object d σ i w = some (v, σ) ∧ c_m_object d τ i w = some (v, τ) := by
  obtain ⟨d, rfl⟩ : ∃ e, d = e + 1 := ⟨d - 1, by omega⟩
  obtain ⟨_, ⟨g, X⟩, _⟩ := A
  have wo := X.1.2.1
  have o24 := wo.2.1
  rw [e_x_object, e_m_object, k_isObject i (by omega), m_inO X i (by omega), Option.bind_some, Option.bind_some]
  by_cases c : 0 ≤ i ∧ i < σ fW_objects 0 0
  · rw [decide_eq_true c, if_neg b2i_n, if_neg b2i_n]
    have ck : ∀ x : Option ga_R, ga_ck i 24 x = x := fun x => ck_ok _ (by omega)
    simp only [ck]
    have p := X.2.1.2.2.1.1 i c.1 c.2
    by_cases c0 : w = 0
    · rw [if_pos c0, if_pos c0, (wo.2.2.2 i c.1 c.2).2.2]; exact ⟨_, rfl, rfl⟩
    · rw [if_neg c0, if_neg c0]
      by_cases c1 : w = 1
      · rw [if_pos c1, if_pos c1, p.1]; exact ⟨_, rfl, rfl⟩
      · rw [if_neg c1, if_neg c1]
        by_cases c2 : w = 2
        · rw [if_pos c2, if_pos c2, p.1]
          rcases p.2.2 with z | z
          · rw [if_pos z.1, z.2.1]; exact ⟨_, rfl, rfl⟩
          · rw [if_neg z.1, z.2.1]; exact ⟨_, rfl, rfl⟩
        · rw [if_neg c2, if_neg c2]; exact ⟨-1, rfl, rfl⟩
  · rw [decide_eq_false c, if_pos b2i_f, if_pos b2i_f]
    exact ⟨-1, rfl, rfl⟩
theorem q_related (A : AP σ τ) (r a b : Int) {d : Nat} (hd : 2 ≤ d) : ∃ v, c_x_related d σ r a b = some (v, σ) ∧ c_m_related d τ r a b = some (v, τ) := by
  obtain ⟨d, rfl⟩ : ∃ e, d = e + 1 := ⟨d - 1, by omega⟩
  obtain ⟨_, ⟨g, X⟩, _⟩ := A
  have wo := X.1.2.1
  have wr := X.1.2.2.2.2.2.2.1
  have r0 := wr.1
  have r6 := wr.2.1
  have o24 := wo.2.1
  rw [e_x_related, e_m_related, wr.2.2.1, w32_ok (x := σ fW_relations 0 0 - 1) (by omega), s_m_in (by omega), Option.bind_some]
  by_cases c : 0 ≤ r ∧ r ≤ σ fW_relations 0 0 - 1
  · rw [decide_eq_true c, if_neg b2i_n, if_neg (by omega), if_pos (by omega), k_isObject a (by omega), Option.bind_some]
    have ma : c_m_in d τ a 0 (w32 (τ fM_objects 0 0 - 1)) = _ := m_inO X a (by omega)
    have mb : c_m_in d τ b 0 (w32 (τ fM_objects 0 0 - 1)) = _ := m_inO X b (by omega)
    rw [ma, Option.bind_some]
    by_cases ca : 0 ≤ a ∧ a < σ fW_objects 0 0
    · rw [decide_eq_true ca, if_neg b2i_n, if_neg b2i_n, k_isObject b (by omega), Option.bind_some, mb, Option.bind_some]
      by_cases cb : 0 ≤ b ∧ b < σ fW_objects 0 0
      · rw [decide_eq_true cb, if_neg b2i_n, if_neg b2i_n, w32_ok (x := 24 * a) (by omega), w32_ok (x := 576 * r) (by omega), w32_ok (x := 24 * a + b) (by omega), w32_ok (x := 576 * r + 24 * a) (by omega), w32_ok (x := 576 * r + 24 * a + b) (by omega), ck_ok _ (by omega), nn_ok _ c.1, ck_ok _ (by omega), ck_ok _ (by omega)]
        have e := (X.2.1.2.2.2.2.1 r c.1 (by omega)).2.2.2.2 (24 * a + b) (by omega) (by omega)
        have e2 : τ fM_related 0 (576 * r + 24 * a + b) = σ fW_related r (24 * a + b) := by rw [Int.add_assoc]; exact e.2
        show ∃ v, (if σ fW_related r (24 * a + b) = 0 then some ((0 : Int), σ) else some (1, σ)) = some (v, σ) ∧ (if τ fM_related 0 (576 * r + 24 * a + b) = 0 then some ((0 : Int), τ) else some (1, τ)) = some (v, τ)
        rw [e2]
        by_cases z : σ fW_related r (24 * a + b) = 0
        · rw [if_pos z, if_pos z]; exact ⟨0, rfl, rfl⟩
        · rw [if_neg z, if_neg z]; exact ⟨1, rfl, rfl⟩
      · rw [decide_eq_false cb, if_pos b2i_f, if_pos b2i_f]; exact ⟨0, rfl, rfl⟩
    · rw [decide_eq_false ca, if_pos b2i_f, if_pos b2i_f]; exact ⟨0, rfl, rfl⟩
  · rw [decide_eq_false c, if_pos b2i_f]
    by_cases c1 : r < 0
    · rw [if_pos c1]; exact ⟨0, rfl, rfl⟩
    · rw [if_neg c1, if_neg (by omega)]; exact ⟨0, rfl, rfl⟩
end

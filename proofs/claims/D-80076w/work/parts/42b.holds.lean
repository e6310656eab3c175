/-! whether an adjective holds, on both sides -/
section
variable {σ τ : ga_S} {g : Int}
theorem told_01 (X : SX σ τ g) {r a : Int} (hr : 0 ≤ r ∧ r < 40) (ha : 0 ≤ a ∧ a < 24) : σ fW_told r a = 0 ∨ σ fW_told r a = 1 := by
  obtain ⟨h1, h2, h3⟩ := X.2.1.1
  by_cases c : r < 24
  · by_cases c2 : r < σ fW_objects 0 0
    · exact (h1 r hr.1 c2 a ha.1 ha.2).1
    · exact Or.inl (h3 r a (Or.inl ⟨by omega, c⟩) ha.1 ha.2)
  · by_cases c2 : r < 24 + σ fW_kinds 0 0
    · have := (h2 (r - 24) (by omega) (by omega) a ha.1 ha.2).1
      rw [show 24 + (r - 24) = r by omega] at this
      exact this
    · exact Or.inl (h3 r a (Or.inr ⟨by omega, hr.2⟩) ha.1 ha.2)
/-- what is told of it -/
theorem hold_t (X : SX σ τ g) {o a : Int} (ho : 0 ≤ o ∧ o < σ fW_objects 0 0) (ha : 0 ≤ a ∧ a < σ fW_adjectives 0 0) (hc : σ fW_contraries 0 a ≠ -1) (w : Int) {d d' : Nat} (hd : 2 ≤ d) (hd' : 1 ≤ d') : c_w_isTold d σ o a = some (b2i (isT σ o a), σ) ∧ c_m_holds d' τ o a w = some (b2i (isT σ o a), τ) := by
  have W := X.1
  have fo := W.1.1
  have o24 := W.2.1.2.1
  have a24 := W.2.2.1.2.1
  have wo := W.2.1.2.2.2 o ho.1 ho.2
  have wa := (W.2.2.1.2.2.2 a ha.1 ha.2).2.resolve_left (fun z => hc z.1)
  have tv1 : ∀ F base r, rowT σ τ F base r → τ F 0 (base + a) = tv σ r a := by
    intro F base r h
    rcases (h a ha.1 (by omega)).2 with z | z
    · exact z.2.2.1
    · exact absurd z.1 (by omega)
  refine ⟨s_w_isTold (σ := σ) fo hd (by omega) ⟨wa.1, by omega⟩ (by omega) (fun r r0 r1 => told_01 X ⟨r0, r1⟩ (by omega)) (by omega) wo.2.1, ?_⟩
  exact s_m_holds0 (σ := σ) (τ := τ) fo W.1.2.2.2.1 hd' (by omega) (by omega) (by have := wa.2.2.2.2.2.2; omega) (fun r r0 r1 => told_01 X ⟨r0, r1⟩ (by omega)) wa.2.2.2.2.2.1 wa.1 (fun k k0 k1 => tv1 _ _ _ (X.2.1.1.2.1 k k0 k1)) (tv1 _ _ _ (X.2.1.1.1 o ho.1 ho.2)) wo.2.2 (by omega) wo.2.1
def STY (σ τ : ga_S) : Prop := τ fM_story 0 = σ fT_bytes 0 ∧ σ fT_bytes 1 = σ fT_bytes 0 ∧ σ fT_size 0 0 ≤ 5000
theorem hold_J : ∀ (n : Nat), n ≤ 8 → ∀ (σ τ : ga_S) (g : Int), SX σ τ g → STY σ τ → σ fU_definedWithin 0 0 = 8 - n → ∀ o a, (0 ≤ o ∧ o < σ fW_objects 0 0) → (0 ≤ a ∧ a < σ fW_adjectives 0 0) → ∀ d d' : Nat, 4 * n + 6 ≤ d → 4 * n + 6 ≤ d' → ∃ b τ', c_u_holds d σ o a = some (b2i b, σ) ∧ c_m_holds d' τ o a (8 - n) = some (b2i b, τ') ∧ fr [fM_numberLong] τ τ' := by
  intro n
  induction n with
  | zero =>
    intro _ σ τ g X S hw o a ho ha d d' hd hd'
    have W := X.1
    have fo := W.1.1
    have o24 := W.2.1.2.1
    have a24 := W.2.2.1.2.1
    have wo := W.2.1.2.2.2 o ho.1 ho.2
    obtain ⟨d, rfl⟩ : ∃ e, d = e + 1 := ⟨d - 1, by omega⟩
    by_cases c : σ fW_contraries 0 a = -1
    · have wa := W.2.2.1.2.2.2 a ha.1 ha.2
      have kk := s_w_isKind (σ := σ) fo (d := d) (by omega) (o := o) (σ fW_adjectiveKinds 0 a) (by omega) (by omega) wo.2.1
      have dt : 0 < τ fM_definedTests 0 a := by
        rcases wa.2 with z | z
        · omega
        · omega
      refine ⟨false, τ, ?_, ?_, fr_refl _ _⟩
      · rw [e_u_holds, ck_ok _ (by omega), if_pos c, ck_ok _ (by omega), kk, Option.bind_some]
        cases q : isB (σ fW_parents 0) (σ fW_kindOf 0 o) (σ fW_adjectiveKinds 0 a) with
        | false => rw [if_pos b2i_f]; rfl
        | true =>
          rw [if_neg b2i_n]
          show (if σ fU_definedWithin 0 0 = 8 then some ((0 : Int), σ) else _) = _
          rw [if_pos (by rw [hw]; rfl)]; rfl
      · obtain ⟨d', rfl⟩ : ∃ e, d' = e + 1 := ⟨d' - 1, by omega⟩
        rw [e_m_holds, if_pos (by omega), ck_ok _ (by omega), if_pos dt, if_neg (by decide), e_m_holds_68, e_m_holds_69, e_m_holds_74, ck_ok _ (by omega), if_pos dt, if_pos rfl]; rfl
    · have h := hold_t X ho ha c (8 - ((0 : Nat) : Int)) (d := d) (d' := d') (by omega) (by omega)
      refine ⟨isT σ o a, τ, ?_, h.2, fr_refl _ _⟩
      rw [e_u_holds, ck_ok _ (by omega), if_neg c, h.1, Option.bind_some, z1_ok _ (b2i_01 _)]
  | succ n ih =>
    intro hn8 σ τ g X S hw o a ho ha d d' hd hd'
    have W := X.1
    have fo := W.1.1
    have o24 := W.2.1.2.1
    have a24 := W.2.2.1.2.1
    have wo := W.2.1.2.2.2 o ho.1 ho.2
    obtain ⟨d, rfl⟩ : ∃ e, d = e + 1 + 1 + 1 := ⟨d - 3, by omega⟩
    obtain ⟨d', rfl⟩ : ∃ e, d' = e + 1 + 1 := ⟨d' - 2, by omega⟩
    by_cases c : σ fW_contraries 0 a = -1
    · have wa := W.2.2.1.2.2.2 a ha.1 ha.2
      have kk := s_w_isKind (σ := σ) fo (d := d + 1 + 1) (by omega) (o := o) (σ fW_adjectiveKinds 0 a) (by omega) (by omega) wo.2.1
      have mk := s_m_isBelow (τ := τ) fo W.1.2.2.2.1 (d := d' + 1) (by omega) (k := τ fM_kindOf 0 o) (σ fW_adjectiveKinds 0 a) (by rw [wo.2.2]; omega) (by rw [wo.2.2]; exact wo.2.1)
      have dt : 0 < τ fM_definedTests 0 a := by
        rcases wa.2 with z | z
        · omega
        · omega
      obtain ⟨w, ew⟩ : ∃ w : Int, w = 8 - ((n + 1 : Nat) : Int) := ⟨_, rfl⟩
      rw [← ew] at hw ⊢
      have w8 : 0 ≤ w ∧ w < 8 := by push_cast at ew; omega
      have rC := e_u_holds (d + 1 + 1) σ o a
      rw [ck_ok _ (by omega), if_pos c, ck_ok _ (by omega), kk, Option.bind_some] at rC
      have rM := e_m_holds (d' + 1) τ o a w
      rw [if_pos (by omega), ck_ok _ (by omega), if_pos dt, if_pos w8.2, ck_ok _ (by omega), ck_ok _ (by omega), wa.1.2.2, mk, Option.bind_some, wo.2.2] at rM
      cases q : isB (σ fW_parents 0) (σ fW_kindOf 0 o) (σ fW_adjectiveKinds 0 a) with
      | false =>
        rw [q, if_pos b2i_f] at rC rM
        refine ⟨false, τ, rC, ?_, fr_refl _ _⟩
        rw [rM]
        show m_holds_68 (d' + 1) τ o a w = _
        rw [e_m_holds_68, e_m_holds_69, e_m_holds_74, ck_ok _ (by omega), if_pos dt, if_pos rfl]; rfl
      | true =>
        rw [q, if_neg b2i_n] at rC rM
        obtain ⟨σ1, e1⟩ : ∃ x, x = ga_up σ fU_definedWithin 0 0 (w + 1) := ⟨_, rfl⟩
        have f1 : fr [fU_definedWithin] σ σ1 := by rw [e1]; exact fr_u (by decide)
        have hw1 : σ1 fU_definedWithin 0 0 = 8 - (n : Int) := by rw [e1, up_eq, ew]; push_cast; omega
        have back : ga_up σ1 fU_definedWithin 0 0 w = σ := by
          rw [e1, up_up]
          have := up_self σ fU_definedWithin 0 0
          rw [hw] at this
          exact this
        have obs : σ1 fW_objects = σ fW_objects := f1 _ (by decide)
        have adj : σ1 fW_adjectives = σ fW_adjectives := f1 _ (by decide)
        obtain ⟨r, er⟩ : ∃ r, r = σ1 fW_defined 0 a := ⟨_, rfl⟩
        have lp : ∀ k, 0 ≤ k → ∀ υ, fr [fM_numberLong] τ υ → ∀ b : Bool, ∃ b' υ', u_tests_6 (d + 1) σ1 r o (-1) (b2i b) k = some (b2i b', σ1) ∧ m_holds_74 (d' + 1) υ o a w (b2i b) k = some (b2i b', υ') ∧ fr [fM_numberLong] τ υ' := by
          have X0 : SX σ1 τ g := SX_f X f1 (by decide) (fr_refl [] τ) (by decide)
          have dg0 := X0.2.2.2.2.2.1.2.2.2.2.2 a ha.1 (by rw [adj]; exact ha.2) (by rw [f1 _ (by decide)]; exact c)
          have r0 : 0 ≤ r := by
            have := X0.2.2.2.2.2.1.1.1 (24 + a) (by omega) (by omega)
            unfold sl at this
            rw [if_neg (by omega), if_pos (by omega), show 24 + a - 24 = a by omega, ← er] at this
            exact this.1
          rw [← er] at dg0
          refine rg_ind (n := σ1 fQ_tests r 0) ?_ ?_
          · intro k hk k0 υ fu b
            refine ⟨b, υ, ?_, ?_, fu⟩
            · rw [e_u_tests_6, nn_ok _ r0, if_neg (by omega), z1_ok _ (b2i_01 _)]
            · rw [e_m_holds_74, ck_ok _ (by omega), fu fM_definedTests (by decide), dg0.1.1, if_neg (by omega), z1_ok _ (b2i_01 _)]
          · intro k hk ihk k0 υ fu b
            have X1 : SX σ1 υ g := SX_f X f1 (by decide) fu (by decide)
            have rl := X1.2.2.2.2.2.1
            have dg := rl.2.2.2.2.2 a ha.1 (by rw [adj]; exact ha.2) (by rw [f1 _ (by decide)]; exact c)
            rw [← er] at dg
            have r24 := rl.2.1
            have tb := rl.2.2.1
            have dgt := dg.1
            have dgf := dg.2.1
            cases b with
            | false =>
              refine ⟨false, υ, ?_, ?_, fu⟩
              · rw [e_u_tests_6, nn_ok _ r0, if_pos hk, if_pos b2i_f, z1_ok _ (b2i_01 _)]
              · rw [e_m_holds_74, ck_ok _ (by omega), dgt.1, if_pos hk, if_pos b2i_f, z1_ok _ (b2i_01 _)]
            | true =>
              have st := dg.2.2 k k0 hk
              have S1 : υ fM_story 0 = σ1 fT_bytes 0 ∧ σ1 fT_bytes 1 = σ1 fT_bytes 0 ∧ σ1 fT_size 0 0 ≤ 5000 := by
                rw [fu _ (by decide), f1 _ (by decide), f1 _ (by decide)]; exact S
              obtain ⟨b1, υ1, x1, x2, x3⟩ := test_J X1 S1 (it := o) (noun := -1) (noun' := -1) (w := w + 1) st (by omega) (by rw [adj] at tb; omega) (fun _ => ⟨by rw [obs]; exact ho, by rw [f1 _ (by decide), f1 _ (by decide), f1 _ (by decide)]; exact q⟩) (fun z => absurd rfl z) (fun _ => rfl) (d := d) (d' := d') (by omega) (by omega) (fun o' a' ho' ha' => by
                obtain ⟨b2, υ2, y1, y2, y3⟩ := ih (by omega) σ1 υ g X1 S1 hw1 o' a' ho' ha' d d' (by omega) (by omega)
                exact ⟨b2, υ2, y1, by rw [show w + 1 = 8 - (n : Int) by rw [ew]; push_cast; omega]; exact y2, y3⟩)
              obtain ⟨b3, υ3, z1, z2, z3⟩ := ihk (by omega) υ1 (fr_trans fu x3) b1
              refine ⟨b3, υ3, ?_, ?_, z3⟩
              · rw [e_u_tests_6, nn_ok _ r0, if_pos hk, if_neg b2i_n, nn_ok _ r0, nn_ok _ r0, ck_ok _ (by omega), x1, Option.bind_some, w32_ok (by omega)]
                exact z1
              · rw [e_m_holds_74, ck_ok _ (by omega), dgt.1, if_pos hk, if_neg b2i_n, ck_ok _ (by omega), w32_ok (x := υ fM_definedFrom 0 a + k) (by rw [adj] at tb; omega), w32_ok (x := w + 1) (by omega), x2, Option.bind_some, w32_ok (by omega)]
                exact z2
        obtain ⟨b, υ, y1, y2, y3⟩ := lp 0 (Int.le_refl _) τ (fr_refl _ _) true
        refine ⟨b, υ, ?_, ?_, y3⟩
        · rw [rC]
          show (if σ fU_definedWithin 0 0 = 8 then some ((0 : Int), σ) else ga_ck a 24 ((c_u_tests (d + 1 + 1) (ga_up σ fU_definedWithin 0 0 (w32 (σ fU_definedWithin 0 0 + 1))) (σ fW_defined 0 a) o (-1)).bind fun q2 => ga_01 q2.1 (some (q2.1, ga_up q2.2 fU_definedWithin 0 0 (w32 (q2.2 fU_definedWithin 0 0 - 1)))))) = _
          have y1' : u_tests_6 (d + 1) σ1 r o (-1) 1 0 = some (b2i b, σ1) := y1
          rw [hw, if_neg (by omega), ck_ok _ (by omega), w32_ok (x := w + 1) (by omega), ← e1, show σ fW_defined 0 a = r by rw [er, f1 _ (by decide)], e_u_tests, y1', Option.bind_some]
          show ga_01 (b2i b) (some (b2i b, ga_up σ1 fU_definedWithin 0 0 (w32 (σ1 fU_definedWithin 0 0 - 1)))) = _
          rw [z1_ok _ (b2i_01 _), e1, up_eq, w32_ok (by omega), show w + 1 - 1 = w by omega, ← e1, back]
        · rw [rM]
          show m_holds_69 (d' + 1) τ o a w 1 = _
          rw [e_m_holds_69]
          exact y2
    · have h := hold_t X ho ha c (8 - ((n + 1 : Nat) : Int)) (d := d + 1 + 1) (d' := d' + 1 + 1) (by omega) (by omega)
      refine ⟨isT σ o a, τ, ?_, h.2, fr_refl _ _⟩
      rw [e_u_holds, ck_ok _ (by omega), if_neg c, h.1, Option.bind_some, z1_ok _ (b2i_01 _)]
end

/-! whether a rule applies, on both sides -/
section
variable {σ τ : ga_S} {g : Int}
/-- a value as an adjective, model -/
theorem hold_v (X : SX σ τ g) {o p v : Int} (ho : 0 ≤ o ∧ o < σ fW_objects 0 0) (hp : 0 ≤ p ∧ p < σ fW_properties 0 0) (hv : 0 ≤ v ∧ v < σ fW_values 0 0) (ty : σ fW_valueTypes 0 v = σ fW_propertyTypes 0 p) (w : Int) {d : Nat} (hd : 2 ≤ d) : ∃ υ, c_m_holds d τ o (100 + 100 * v + p) w = some (b2i (decide (numV σ o p = v)), υ) ∧ fr [fM_numberLong] τ υ := by
  obtain ⟨d, rfl⟩ : ∃ e, d = e + 1 := ⟨d - 1, by omega⟩
  have v64 := X.1.2.2.2.2.1.2.1
  have p12 := X.1.2.2.2.2.2.1.2.1
  have wv := X.1.2.2.2.2.1.2.2.2 v hv.1 hv.2
  obtain ⟨x, l, n1, n2, _⟩ := nm_J X ho hp (d := d) (by omega)
  have ex := n2 (by rw [← ty]; omega)
  refine ⟨ga_up τ fM_numberLong 0 0 l, ?_, fr_u (by decide)⟩
  rw [e_m_holds, if_neg (by omega), show Int.tmod (100 + 100 * v + p) 100 = p by rw [Int.tmod_eq_emod_of_nonneg (by omega)]; omega, w32_ok (x := p) (by omega), n1, Option.bind_some, show Int.tdiv (100 + 100 * v + p) 100 = 1 + v by rw [Int.tdiv_eq_ediv_of_nonneg (by omega)]; omega, w32_ok (x := 1 + v) (by omega), w32_ok (by omega), show 1 + v - 1 = v by omega]
  show (if x = v then some ((1 : Int), ga_up τ fM_numberLong 0 0 l) else some (0, ga_up τ fM_numberLong 0 0 l)) = _
  rw [ex]
  by_cases c : numV σ o p = v
  · rw [if_pos c, decide_eq_true c]; rfl
  · rw [if_neg c, decide_eq_false c]; rfl
theorem ap_0 {l : Int} (hl : 0 ≤ l ∧ l < 24) (n : Int) (d : Nat) : m_applies_85 d τ l n = some (0, τ) := by
  rw [e_m_applies_85, e_m_applies_86, e_m_applies_91, ck_ok _ hl]
  by_cases c : 0 < τ fM_ruleAdjectives 0 l
  · rw [if_pos c, if_pos rfl, e_m_applies_133, if_pos rfl]
  · rw [if_neg c, e_m_applies_133, if_pos rfl]
theorem applies_J (X : SX σ τ g) (S : STY σ τ) (hw : σ fU_definedWithin 0 0 = 0) {l a noun noun' : Int} (hl : 0 ≤ l ∧ l < σ fW_rules 0 0) (hs : rS σ l < 3) (hv : 0 ≤ σ fW_actionKinds 0 a → ((0 ≤ noun ∧ noun < σ fW_objects 0 0) ∧ isB (σ fW_parents 0) (σ fW_kindOf 0 noun) (σ fW_actionKinds 0 a) = true) ∧ noun' = noun) {d d' : Nat} (hd : 43 ≤ d) (hd' : 43 ≤ d') : ∃ b τ', c_u_applies d σ (σ fW_rule 0 l) a noun = some (b2i b, σ) ∧ c_m_applies d' τ l a noun' = some (b2i b, τ') ∧ fr [fM_numberLong] τ τ' ∧ (b = true → ∃ nk, kO σ nk ∧ ruG σ nk σ τ (σ fW_rule 0 l) l ∧ IVk σ nk noun ∧ (nk ≠ -1 → noun' = noun)) := by
  obtain ⟨d, rfl⟩ : ∃ e, d = e + 1 := ⟨d - 1, by omega⟩
  obtain ⟨d', rfl⟩ : ∃ e, d' = e + 1 := ⟨d' - 1, by omega⟩
  have W := X.1
  have fo := W.1.1
  have o24 := W.2.1.2.1
  have rl := X.2.2.2.2.2.1
  have r24 := rl.2.1
  obtain ⟨nk, kn, G⟩ := rl.2.2.2.2.1 l hl.1 hl.2
  have GG := G
  obtain ⟨g1, g2, _⟩ := G
  have ns : σ fQ_sort (σ fW_rule 0 l) 0 ≠ 3 := by
    have : rS σ l = σ fQ_sort (σ fW_rule 0 l) 0 := rfl
    omega
  obtain ⟨h1, h2, h3, h4, h5, h6⟩ := (g2.resolve_left (fun z => ns z.1)).2
  obtain ⟨r, er⟩ : ∃ r, r = σ fW_rule 0 l := ⟨_, rfl⟩
  have r0 : 0 ≤ r := by
    have := rl.1.1 l (by omega) (by omega)
    unfold sl at this
    rw [if_pos (by omega), ← er] at this
    exact this.1
  rw [← er] at h1 h2 h3 h4 h5 h6 g1 ns ⊢
  have ck : ∀ x : Option ga_R, ga_ck l 24 x = x := fun x => ck_ok _ (by omega)
  have nn : ∀ x : Option ga_R, ga_nn r x = x := fun x => nn_ok _ r0
  have rC := e_u_applies d σ r a noun
  simp only [nn] at rC
  have rM := e_m_applies d' τ l a noun'
  simp only [ck] at rM
  rw [g1.1, if_pos (by have : rS σ l = σ fQ_sort (σ fW_rule 0 l) 0 := rfl; rw [← er] at this; omega), h1, h3] at rM
  by_cases ca : σ fQ_action r 0 = a
  · rw [if_pos ca] at rC rM
    rw [ca] at h6 h2
    rcases h6 with ⟨a1, a2, a3, a4⟩ | ⟨a1, a2, a3, a4, a5, a6⟩ | ⟨a1, a2, a3, a4, a5, L, a6, a7, a8, a9⟩
    · -- any noun
      have iv : IVk σ nk noun := by
        intro z
        rw [a4] at z ⊢
        by_cases c : σ fW_actionKinds 0 a < 0
        · rw [if_pos c] at z; exact absurd rfl z
        · rw [if_neg c]; exact (hv (by omega)).1
      have hnn : nk ≠ -1 → noun' = noun := by
        intro z
        rw [a4] at z
        by_cases c : σ fW_actionKinds 0 a < 0
        · rw [if_pos c] at z; exact absurd rfl z
        · exact (hv (by omega)).2
      obtain ⟨b, τ', t1, t2, t3⟩ := tests_J X S hw hl GG iv hnn (d := d) (d' := d') (by omega) (by omega)
      rw [← er] at t1
      rw [if_pos a1, e_u_applies_24] at rC
      simp only [nn] at rC
      rw [if_pos a2, e_u_applies_49, e_u_applies_52] at rC
      simp only [nn] at rC
      rw [if_neg (by omega), t1, Option.bind_some, z1_ok _ (b2i_01 _)] at rC
      rw [if_pos a1, e_m_applies_40, e_m_applies_45, if_neg (by decide)] at rM
      simp only [ck] at rM
      rw [h4, if_pos a2, e_m_applies_81, e_m_applies_86, e_m_applies_91] at rM
      simp only [ck] at rM
      rw [h5, if_neg (by omega), e_m_applies_133, if_neg (by decide), t2] at rM
      exact ⟨b, τ', rC, rM, t3, fun _ => ⟨nk, kn, by rw [er]; exact GG, iv, hnn⟩⟩
    · -- one object
      have hv2 := hv a4
      rw [if_neg (by omega)] at rC rM
      rw [hv2.2] at rM ⊢
      by_cases c : σ fQ_object r 0 = noun
      · have iv : IVk σ nk noun := by
          intro _
          have wo := W.2.1.2.2.2 noun hv2.1.1.1 hv2.1.1.2
          rw [a6, c]
          exact ⟨hv2.1.1, isB_rf fo wo.1 wo.2.1⟩
        obtain ⟨b, τ', t1, t2, t3⟩ := tests_J X S hw hl GG iv (noun' := noun) (fun _ => rfl) (d := d) (d' := d') (by omega) (by omega)
        rw [← er] at t1
        rw [if_pos c, e_u_applies_24] at rC
        simp only [nn] at rC
        rw [if_pos a2, e_u_applies_49, e_u_applies_52] at rC
        simp only [nn] at rC
        rw [if_neg (by omega), t1, Option.bind_some, z1_ok _ (b2i_01 _)] at rC
        rw [if_pos c, e_m_applies_40, e_m_applies_45, if_neg (by decide)] at rM
        simp only [ck] at rM
        rw [h4, if_pos a2, e_m_applies_81, e_m_applies_86, e_m_applies_91] at rM
        simp only [ck] at rM
        rw [h5, if_neg (by omega), e_m_applies_133, if_neg (by decide), t2] at rM
        exact ⟨b, τ', rC, rM, t3, fun _ => ⟨nk, kn, by rw [er]; exact GG, iv, fun _ => rfl⟩⟩
      · rw [if_neg c] at rC rM
        rw [e_m_applies_44, e_m_applies_45, if_pos rfl, ap_0 (by omega)] at rM
        exact ⟨false, τ, rC, rM, fr_refl _ _, fun z => absurd z (by decide)⟩
    · -- a kind, with adjectives
      have hv2 := hv a3
      rw [hv2.2] at rM ⊢
      have wn := W.2.1.2.2.2 noun hv2.1.1.1 hv2.1.1.2
      have kk := s_w_isKind (σ := σ) fo (d := d) (by omega) (o := noun) (σ fQ_kind r 0) (by omega) (by omega) wn.2.1
      have mk := s_m_isBelow (τ := τ) fo W.1.2.2.2.1 (d := d') (by omega) (k := τ fM_kindOf 0 noun) (σ fQ_kind r 0) (by rw [wn.2.2]; omega) (by rw [wn.2.2]; exact wn.2.1)
      rw [if_pos a1, e_u_applies_24] at rC
      simp only [nn] at rC
      rw [if_neg (by omega), kk, Option.bind_some] at rC
      rw [if_pos a1, e_m_applies_40, e_m_applies_45, if_neg (by decide)] at rM
      simp only [ck] at rM
      rw [h4, if_neg (by omega), ck_ok _ (by omega), mk, Option.bind_some, wn.2.2] at rM
      cases q : isB (σ fW_parents 0) (σ fW_kindOf 0 noun) (σ fQ_kind r 0) with
      | false =>
        rw [q, if_pos b2i_f] at rC rM
        refine ⟨false, τ, rC, ?_, fr_refl _ _, fun z => absurd z (by decide)⟩
        rw [rM]
        exact ap_0 (by omega) noun d'
      | true =>
        rw [q, if_neg b2i_n] at rC rM
        have iv : IVk σ nk noun := by
          intro _
          rw [a5]
          exact ⟨hv2.1.1, q⟩
        have a24 := W.2.2.1.2.1
        have p12 := W.2.2.2.2.2.1.2.1
        have lp : ∀ i, 0 ≤ i → ∀ υ, fr [fM_numberLong] τ υ → ∃ b υ', u_applies_52 d σ r noun i = some (b2i b, σ) ∧ m_applies_91 d' υ l noun 1 i = some (b2i b, υ') ∧ fr [fM_numberLong] τ υ' := by
          refine rg_ind (n := σ fQ_adjectives r 0) ?_ ?_
          · intro i hi i0 υ fu
            have X1 : SX σ υ g := SX_f X (fr_refl [] σ) (by decide) fu (by decide)
            have S1 : STY σ υ := ⟨by rw [fu _ (by decide)]; exact S.1, S.2⟩
            have G1 : ruG σ nk σ υ (σ fW_rule 0 l) l := ruG_rows (τ' := υ) GG (fun F hF => rfl) (fun F hF s s0 s1 => rfl) (fun F hF => by rw [fr_no fu (M := ruL9) (by decide) hF]) (fun i _ _ => by rw [fu _ (by decide)]) (fun F hF k _ => by rw [fr_no fu (M := qL) (by decide) hF]) (fun F hF k _ => by rw [fr_no fu (M := xL) (by decide) hF]) (by rw [fu _ (by decide)]; exact Int.le_refl _) (by rw [fu _ (by decide)]; exact Int.le_refl _)
            obtain ⟨b, υ', t1, t2, t3⟩ := tests_J X1 S1 hw hl G1 iv (noun' := noun) (fun _ => rfl) (d := d) (d' := d') (by omega) (by omega)
            rw [← er] at t1
            refine ⟨b, υ', ?_, ?_, fr_trans fu t3⟩
            · rw [e_u_applies_52]
              simp only [nn]
              rw [if_neg (by omega), t1, Option.bind_some, z1_ok _ (b2i_01 _)]
            · rw [e_m_applies_91, ck, fu fM_ruleAdjectives (by decide), h5, if_neg (by omega), e_m_applies_133, if_neg (by decide), t2]
          · intro i hi ih i0 υ fu
            have X1 : SX σ υ g := SX_f X (fr_refl [] σ) (by decide) fu (by decide)
            have S1 : STY σ υ := ⟨by rw [fu _ (by decide)]; exact S.1, S.2⟩
            obtain ⟨j, rfl⟩ := Int.eq_ofNat_of_zero_le i0
            have hj : j < L.length := by omega
            obtain ⟨rd, ra⟩ := a9 j hj
            have mem : L.getD j 0 ∈ L := by
              have : L.getD j 0 = L[j] := by simp [List.getD, hj]
              rw [this]; exact List.getElem_mem hj
            have ao := a8 _ mem
            have rC1 := e_u_applies_52 d σ r noun j
            simp only [nn] at rC1
            rw [if_pos hi, ck_ok _ (by omega)] at rC1
            have rM1 := e_m_applies_91 d' υ l noun 1 j
            rw [ck, fu fM_ruleAdjectives (by decide), h5, if_pos hi, if_neg (by decide), w32_ok (x := 6 * l) (by omega), w32_ok (x := 6 * l + (j : Int)) (by omega), ck_ok _ (by omega), fu fM_ruleAdjective (by decide), ra] at rM1
            have nx : u_applies_129 d σ r noun j = u_applies_52 d σ r noun ((j : Int) + 1) := by rw [e_u_applies_129, w32_ok (by omega)]
            have key : ∃ b υ1, (u_applies_52 d σ r noun j = if b = true then u_applies_52 d σ r noun ((j : Int) + 1) else some (0, σ)) ∧ c_m_holds d' υ noun (L.getD j 0) 0 = some (b2i b, υ1) ∧ fr [fM_numberLong] υ υ1 := by
              rcases rd with ⟨d1, d2, d3, d4⟩ | ⟨d1, d2, d3, d4, d5⟩
              · have wr : σ fQ_which r j < σ fW_adjectives 0 0 := by
                  rcases ao with z | ⟨v, p, z, zv, zp, _⟩
                  · rw [d2] at z; exact z.2.1
                  · rw [d2] at z; omega
                obtain ⟨b, υ1, x1, x2, x3⟩ := hold_0 X1 S1 hw hv2.1.1 ⟨d3, wr⟩ (d := d) (d' := d') (by omega) (by omega)
                refine ⟨b, υ1, ?_, by rw [d2]; exact x2, x3⟩
                rw [rC1, if_pos d1, e_u_applies_77, if_pos rfl]
                simp only [nn]
                rw [ck_ok _ (by omega), x1, Option.bind_some]
                cases b with
                | true => rw [if_neg b2i_n, if_pos rfl]; exact nx
                | false => rw [if_pos b2i_f, if_neg (by decide)]
              · obtain ⟨v, p, z, zv, zp, zo, zt⟩ : ∃ v p, L.getD j 0 = 100 + 100 * v + p ∧ (0 ≤ v ∧ v < σ fW_values 0 0) ∧ (0 ≤ p ∧ p < σ fW_properties 0 0) ∧ own σ (σ fQ_kind r 0) p = true ∧ σ fW_valueTypes 0 v = σ fW_propertyTypes 0 p := by
                  rcases ao with z | z
                  · rw [d3] at z; omega
                  · exact z
                have ev : σ fQ_values r j = v := by rw [d3] at z; omega
                have ew : σ fQ_which r j = p := by rw [d3] at z; omega
                obtain ⟨υ1, x2, x3⟩ := hold_v X1 hv2.1.1 zp zv zt 0 (d := d') (by omega)
                refine ⟨decide (numV σ noun p = v), υ1, ?_, by rw [z]; exact x2, x3⟩
                have sn := s_w_number (σ := σ) fo (d := d) (by omega) (o := noun) (p := p) (by omega) (by omega) W.2.2.2.2.1.2.1 (by omega) wn.2.1
                rw [rC1, if_neg (by omega), e_u_applies_77, if_neg (by decide)]
                simp only [nn]
                rw [ck_ok _ (by omega), ew, sn, Option.bind_some, ck_ok _ (by omega)]
                show (if numV σ noun p = σ fQ_values r j then u_applies_129 d σ r noun j else some (0, σ)) = _
                rw [ev, nx]
                by_cases c : numV σ noun p = v
                · rw [if_pos c, if_pos (decide_eq_true c)]
                · rw [if_neg c, if_neg (by rw [decide_eq_false c]; decide)]
            obtain ⟨b, υ1, k1, k2, k3⟩ := key
            rw [k2, Option.bind_some, w32_ok (by omega)] at rM1
            cases b with
            | true =>
              rw [if_pos rfl] at k1
              obtain ⟨b3, υ3, z1, z2, z3⟩ := ih (by omega) υ1 (fr_trans fu k3)
              exact ⟨b3, υ3, k1.trans z1, rM1.trans z2, z3⟩
            | false =>
              rw [if_neg (by decide)] at k1
              refine ⟨false, υ1, k1, rM1.trans ?_, fr_trans fu k3⟩
              show m_applies_91 d' υ1 l noun 0 ((j : Int) + 1) = _
              rw [e_m_applies_91, ck]
              by_cases c : (j : Int) + 1 < υ1 fM_ruleAdjectives 0 l
              · rw [if_pos c, if_pos rfl, e_m_applies_133, if_pos rfl]; rfl
              · rw [if_neg c, e_m_applies_133, if_pos rfl]; rfl
        obtain ⟨b, υ, y1, y2, y3⟩ := lp 0 (Int.le_refl _) τ (fr_refl _ _)
        refine ⟨b, υ, ?_, ?_, y3, fun _ => ⟨nk, kn, by rw [er]; exact GG, iv, fun _ => rfl⟩⟩
        · rw [rC]
          show u_applies_49 d σ r noun = _
          rw [e_u_applies_49]; exact y1
        · rw [rM]
          show m_applies_81 d' τ l noun = _
          rw [e_m_applies_81, e_m_applies_86]; exact y2
  · rw [if_neg ca] at rC rM
    rw [e_m_applies_44, e_m_applies_45, if_pos rfl, ap_0 (by omega)] at rM
    exact ⟨false, τ, rC, rM, fr_refl _ _, fun z => absurd z (by decide)⟩
end

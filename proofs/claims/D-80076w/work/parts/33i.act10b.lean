/-! the act of new kinds and of new types -/
section
variable {σ τ : ga_S} {f : Int} {N : Nat}
/-- names of a list that are all new -/
theorem names_new (E2 : TOK σ τ f N) {n : Int} (hn : ∀ k, 0 ≤ k → k < n → RU σ τ f N k (σ fR_nameFrom 0 k) (σ fR_nameTo 0 k) ∧ σ fR_nameFrom 0 k < σ fR_nameTo 0 k) (ha : ∀ j, 0 ≤ j → j < n → nB σ (wN σ j) ((rg 0 j).map (wN σ)) = true) : (∀ k, 0 ≤ k → k < n → (wN σ k).length ≤ 3 ∧ fnd σ (nN σ k) 0 = -1 ∧ ∀ j, 0 ≤ j → j < k → nN σ k ≠ nN σ j) ∧ (∀ i j, 0 ≤ i → i < n → 0 ≤ j → j < n → j ≠ i → nN σ j ≠ nN σ i) := by
  have w : ∀ k, 0 ≤ k → k < n → (wN σ k).length ≤ 3 ∧ fnd σ (nN σ k) 0 = -1 ∧ ∀ j, 0 ≤ j → j < k → nN σ k ≠ nN σ j := by
    intro k k0 k1
    have b := nB_1 (ha k k0 k1)
    refine ⟨b.1, b.2.1, fun j j0 j1 z => b.2.2 ?_⟩
    have e := nm_ne E2 (hn k k0 k1).1.2.2.2 (hn j j0 (by omega)).1.2.2.2 z
    exact List.mem_map.mpr ⟨j, (rg_mem 0).mpr ⟨j0, j1⟩, e.symm⟩
  refine ⟨w, fun i j i0 i1 j0 j1 ne z => ?_⟩
  by_cases c : j < i
  · exact (w i i0 i1).2.2 j j0 c z.symm
  · exact (w j j0 j1).2.2 i i0 (by omega) z
theorem act_10k (E : E0 σ τ f N) {g : Int} (D : DW σ τ g) (R5 : RW5 σ τ) (kb : kb0 σ τ) (hs : σ fR_sort 0 0 = 10) (ht : τ fM_sort 0 0 = 10) (hn : ∀ k, 0 ≤ k → k < σ fR_names 0 0 → RU σ τ f N k (σ fR_nameFrom 0 k) (σ fR_nameTo 0 k) ∧ σ fR_nameFrom 0 k < σ fR_nameTo 0 k) (hn0 : 0 ≤ σ fR_names 0 0) (hl : τ fM_listFrom 0 0 = 0 ∧ τ fM_listSize 0 0 = σ fR_names 0 0) (hv : σ fR_isValue 0 0 = 0) (hw : (τ fM_what 0 0 = -1 ∧ σ fR_kind0 0 0 = 0) ∨ (0 ≤ τ fM_what 0 0 ∧ RU σ τ f N (τ fM_what 0 0) (σ fR_runFrom 0 0) (σ fR_runTo 0 0) ∧ σ fR_kind0 0 0 = dN σ (nR σ 0) 0 ∧ dN σ (nR σ 0) 0 ≠ -1)) (ha : ∀ j, 0 ≤ j → j < σ fR_names 0 0 → nB σ (wN σ j) ((rg 0 j).map (wN σ)) = true ∧ σ fW_kinds 0 0 + j < 16) {d : Nat} (hd : 4 ≤ d) (first : Int) : ∃ σ' τ', c_r_act (d + 2) σ = some (1, σ') ∧ c_m_does1 (d + 2) τ first = some (0, τ') ∧ fr a10C σ σ' ∧ fr a10M τ τ' ∧ WK σ' τ' ∧ RW5 σ' τ' ∧ DW σ' τ' g ∧ kb0 σ' τ' ∧ tkS σ σ' ∧ σ' fW_types = σ fW_types ∧ σ' fW_typeValues = σ fW_typeValues := by
  have E' := E
  obtain ⟨E1, E2, E3, E4⟩ := E
  have ET : ENV σ τ f N ∧ TOK σ τ f N := ⟨E1, E2⟩
  obtain ⟨Wk, Wo, Wa, Wt, Wv, Wp, Wr, Wb, Wc, Wd, Wl⟩ := E4
  obtain ⟨K, eK⟩ : ∃ x, x = σ fW_kinds 0 0 := ⟨_, rfl⟩
  obtain ⟨T, eT⟩ : ∃ x, x = σ fW_types 0 0 := ⟨_, rfl⟩
  obtain ⟨p, ep⟩ : ∃ x, x = σ fR_kind0 0 0 := ⟨_, rfl⟩
  obtain ⟨n, en⟩ : ∃ x, x = σ fR_names 0 0 := ⟨_, rfl⟩
  have k5 := Wk.2.1
  have k16 := Wk.1.1
  have t8 := Wt.2.1
  have t2 := Wt.1
  have eK' : τ fM_kinds 0 0 = K := by rw [Wk.2.2.1, eK]
  have eT' : τ fM_types 0 0 = T := by rw [Wt.2.2.1, eT]
  have pR : 0 ≤ p ∧ p < K := by
    rcases hw with z | z
    · omega
    · have b := e0_dN E' (nR σ 0) 0
      have m0 : mxN σ 0 = σ fW_kinds 0 0 := rfl
      omega
  rw [← eK] at k5 k16 ha
  rw [← eT] at t8 t2
  rw [← en] at hn hn0 hl ha
  rw [← ep] at hw
  have n16 : K + n ≤ 16 := by
    by_cases c : n ≤ 0
    · omega
    · have := (ha (n - 1) (by omega) (by omega)).2
      omega
  obtain ⟨wnew, wd⟩ := names_new E2 hn (fun j j0 j1 => (ha j j0 j1).1)
  have N0 : KA σ τ g K T p σ τ 0 := by
    refine ⟨⟨tkS_r σ, tkT_r τ, D, fun nm z _ => z, fun j j0 j1 => by omega, fun q l e => ?_⟩, fr_refl _ _, fr_refl _ _, by omega, by omega, fun i => by rw [if_neg (by omega)], fun i => by rw [if_neg (by omega)], fun i => by rw [if_neg (by omega)], fun i => by rw [if_neg (by omega)], fun i => by rw [if_neg (by omega)]⟩
    have := (Wd q l).2 e
    omega
  have loop : ∀ k, 0 ≤ k → k ≤ n → ∀ ρ υ, KA σ τ g K T p ρ υ k → ∃ ρ' υ', r_act_417 (d + 1) ρ k = r_act_493 (d + 1) ρ' 0 ∧ m_doKinds_55 d υ K T 0 p k = m_doKinds_124 d υ' K T 0 0 ∧ KA σ τ g K T p ρ' υ' n := by
    refine rg_ind (n := n) ?_ ?_
    · intro k h h0 h1 ρ υ H
      have e : k = n := by omega
      subst e
      refine ⟨ρ, υ, ?_, ?_, H⟩
      · rw [e_r_act_417, H.2.1 fR_names (by decide), ← en, if_neg (by omega)]
      · rw [e_m_doKinds_55, H.2.2.1 fM_listSize (by decide), hl.2, if_neg (by omega)]
    · intro k h ih h0 h1 ρ υ H
      obtain ⟨ρ1, υ1, ρ2, υ2, s1, s2, s3, s4, s5, s6, s7⟩ := ka_step ET eK H h0 (by omega) (ha k h0 h).2 (hn k h0 h).1 (hn k h0 h).2 (wnew k h0 h) (d := d) (by omega)
      have q1 : c_w_newKind (d + 1) ρ p = some (K + k, ρ1) := am_mono s1 (Nat.le_succ d)
      have q3 : c_r_tell (d + 1) ρ1 (σ fR_nameFrom 0 k) (σ fR_nameTo 0 k) 0 (K + k) = some (0, ρ2) := am_mono s3 (Nat.le_succ d)
      obtain ⟨ρ', υ', t1, t2, t3⟩ := ih (by omega) (by omega) ρ2 υ2 s7
      refine ⟨ρ', υ', ?_, ?_, t3⟩
      · have iv : ρ1 fR_isValue 0 0 = 0 := by rw [s5 _ (by decide), H.2.1 _ (by decide)]; exact hv
        rw [e_r_act_417, H.2.1 fR_names (by decide), ← en, if_pos h, H.2.1 fR_isValue (by decide), if_pos hv, H.2.1 fR_kind0 (by decide), ← ep]
        rw [q1]
        simp only [Option.bind_some]
        rw [e_r_act_453, ck_ok _ (by omega), ck_ok _ (by omega), if_pos iv, e_r_act_480, s5 fR_nameTo (by decide), s5 fR_nameFrom (by decide), H.2.1 fR_nameTo (by decide), H.2.1 fR_nameFrom (by decide)]
        rw [q3]
        simp only [Option.bind_some]
        rw [w32_ok (x := k + 1) (by omega), t1]
      · rw [e_m_doKinds_55, H.2.2.1 fM_listSize (by decide), hl.2, if_pos h, if_pos rfl, s2]
        simp only [Option.bind_some]
        rw [s6 fM_listFrom (by decide), H.2.2.1 fM_listFrom (by decide), hl.1, show (0 : Int) + k = k by omega, w32_ok (x := k) (by omega), s4]
        simp only [Option.bind_some]
        rw [e_m_doKinds_115, w32_ok (x := k + 1) (by omega), t2]
  obtain ⟨ρ0, υ0, a1, a2, a3⟩ := loop 0 (Int.le_refl _) hn0 σ τ N0
  obtain ⟨H1, H2, H3, H4, H5, H6, H7, H8, H9, H10⟩ := a3
  have P0 := pu_0 (v3 := 0) E2 Wl H1 (fun k k0 k1 => (hn k k0 k1).1.2.2.2) (fun k k0 k1 => (wnew k k0 k1).2.1)
  obtain ⟨σ', τ', b1, b2, b3⟩ := pu_loop ET (g := g) (K := K) (T := T) (n := n) (v3 := 0) (ρ0 := ρ0) (υ0 := υ0) (by omega) (by omega) (by omega) (Or.inl ⟨rfl, by rw [H2 _ (by decide)]; exact hv, H4, n16⟩) hl ⟨H3 _ (by decide), H3 _ (by decide)⟩ ⟨by rw [H2 _ (by decide)]; exact en.symm, H2 _ (by decide), H2 _ (by decide)⟩ hn (fun k k0 k1 => (wnew k k0 k1).1) wd (d := d + 1) (d' := d) (by omega) (by omega) 0 (Int.le_refl _) hn0 ρ0 υ0 P0
  obtain ⟨P1, P2, P3, P4, P5, P6, P7, P8⟩ := b3
  have fC : fr ([fW_kinds, fW_parents] ++ dicL ++ spL) σ σ' := fr_trans H2 (fr_sub P4 (by decide))
  have fM : fr (akM ++ lexL) τ τ' := fr_trans H3 (fr_sub P5 (by decide))
  have hC : c_r_act (d + 2) σ = some (1, σ') := by
    rw [e_r_act, hs]
    iterate 10 rw [if_neg (by decide)]
    rw [if_pos rfl, a1, b1]
  have hM : c_m_does1 (d + 2) τ first = some (0, τ') := by
    have m55 : m_doKinds_55 d τ K T 0 p 0 = some (0, τ') := by rw [a2, b2]
    have m24 : m_doKinds_24 d τ K T 0 = some (0, τ') := by
      rw [e_m_doKinds_24, if_pos rfl]
      rcases hw with z | z
      · rw [z.2] at m55
        rw [if_pos z.1, e_m_doKinds_37, e_m_doKinds_50, m55]
      · have me := m_meansA ET (tkT_r τ) E3 z.2.1 (d := d) (by omega) 0
        rw [mN_dN (s := 0) (by omega)] at me
        have me' : c_m_meansRun d τ (τ fM_what 0 0) 0 = some (p, τ) := by rw [z.2.2.1]; exact me
        rw [if_neg (by omega), me']
        simp only [Option.bind_some]
        rw [e_m_doKinds_50, m55]
    have dk : c_m_doKinds (d + 1) τ = some (0, τ') := by
      rw [e_m_doKinds, if_neg (by omega), eK', eT', m24]
    rw [e_m_does1, ht]
    iterate 10 rw [if_neg (by decide)]
    rw [if_pos rfl, dk]
    rfl
  have xk : σ' fW_kinds 0 0 = K + n := by rw [P4 _ (by decide)]; exact H4
  have yk : τ' fM_kinds 0 0 = K + n := by rw [P5 _ (by decide)]; exact H5
  have xp : ∀ i, σ' fW_parents 0 i = if K ≤ i ∧ i < K + n then p else σ fW_parents 0 i := by intro i; rw [P4 _ (by decide)]; exact H6 i
  have yp : ∀ i, τ' fM_above 0 i = if K ≤ i ∧ i < K + n then p else τ fM_above 0 i := by intro i; rw [P5 _ (by decide)]; exact H7 i
  have yh : ∀ i, τ' fM_kindHas 0 i = if 12 * K ≤ i ∧ i < 12 * (K + n) then 0 else τ fM_kindHas 0 i := by intro i; rw [P5 _ (by decide)]; exact H8 i
  have yt : ∀ i, τ' fM_kindTold 0 i = if 12 * K ≤ i ∧ i < 12 * (K + n) then 0 else τ fM_kindTold 0 i := by intro i; rw [P5 _ (by decide)]; exact H9 i
  have yi : ∀ i, τ' fM_kindIs 0 i = if 24 * K ≤ i ∧ i < 24 * (K + n) then 0 else τ fM_kindIs 0 i := by intro i; rw [P5 _ (by decide)]; exact H10 i
  have po : ∀ i, i < K → σ' fW_parents 0 i = σ fW_parents 0 i := by intro i hi; rw [xp, if_neg (by omega)]
  have Wk' : WKk σ' τ' := by
    obtain ⟨q1, q2, q3, q4, q5, q6, q7, q8, q9⟩ := Wk
    refine ⟨⟨by omega, fun k z0 z1 => ?_⟩, by omega, by omega, fun k z0 z1 => ?_, by rw [po _ (by omega)]; exact q5, by rw [po _ (by omega)]; exact q6, by rw [po _ (by omega)]; exact q7, by rw [po _ (by omega)]; exact q8, by rw [po _ (by omega)]; exact q9⟩
    · rw [xp]
      by_cases c : K ≤ k ∧ k < K + n
      · rw [if_pos c]; omega
      · rw [if_neg c]; exact q1.2 k z0 (by omega)
    · rw [xp, yp]
      by_cases c : K ≤ k ∧ k < K + n
      · rw [if_pos c, if_pos c]
      · rw [if_neg c, if_neg c]; exact q4 k z0 (by omega)
  have Wo' : WKo σ' τ' := by
    obtain ⟨q1, q2, q3, q4⟩ := Wo
    unfold WKo
    rw [fC fW_objects (by decide), fC fW_kindOf (by decide), fM fM_objects (by decide), fM fM_kindOf (by decide), xk]
    exact ⟨q1, q2, q3, fun o z0 z1 => by have := q4 o z0 z1; exact ⟨this.1, by omega, this.2.2⟩⟩
  have Wa' : WKa σ' τ' := by
    obtain ⟨q1, q2, q3, q4⟩ := Wa
    unfold WKa
    rw [fC fW_adjectives (by decide), fC fW_adjectiveKinds (by decide), fC fW_contraries (by decide), fM fM_adjectives (by decide), fM fM_adjectiveKind (by decide), fM fM_contrary (by decide), fM fM_definedTests (by decide), xk]
    exact ⟨q1, q2, q3, fun o z0 z1 => by have := q4 o z0 z1; exact ⟨⟨this.1.1, by omega, this.1.2.2⟩, this.2⟩⟩
  have Wp' : WKp σ' τ' := by
    obtain ⟨q1, q2, q3, q4, q5⟩ := Wp
    unfold WKp
    rw [fC fW_properties (by decide), fC fW_propertyTypes (by decide), fC fW_types (by decide), fC fW_propertyKinds (by decide), fM fM_properties (by decide), fM fM_propertyType (by decide), xk]
    refine ⟨q1, q2, q3, q4, fun k p' z0 z1 z2 z3 => ?_⟩
    rw [yh]
    by_cases c : K ≤ k
    · rw [if_pos (by omega), kb.1 p' k z2 z3 (by omega) (by omega)]; rfl
    · rw [if_neg (by omega)]; exact q5 k p' z0 (by omega) z2 z3
  have Wr' : WKr σ' τ' := by
    obtain ⟨q1, q2, q3, q4⟩ := Wr
    unfold WKr
    rw [fC fW_relations (by decide), fC fW_relationA (by decide), fC fW_relationB (by decide), fM fM_relations (by decide), fM fM_relates (by decide), fM fM_relatesTo (by decide), xk]
    exact ⟨q1, q2, q3, fun o z0 z1 => by have := q4 o z0 z1; exact ⟨⟨this.1.1, by omega, this.1.2.2⟩, this.2.1, by omega, this.2.2.2⟩⟩
  have Wc' : WKc σ' τ' := by
    obtain ⟨q1, q2, q3, q4⟩ := Wc
    unfold WKc
    rw [fC fW_actions (by decide), fC fW_actionKinds (by decide), fM fM_actions (by decide), fM fM_actionKind (by decide), xk]
    exact ⟨q1, q2, q3, fun o z0 z1 => by have := q4 o z0 z1; exact ⟨this.1, by omega, this.2.2⟩⟩
  have kb' : kb0 σ' τ' := by
    unfold kb0
    rw [fC fW_properties (by decide), fC fW_propertyKinds (by decide), xk]
    refine ⟨fun p' k z0 z1 z2 z3 => kb.1 p' k z0 z1 (by omega) z3, fun k p' z0 z1 z2 z3 => ?_⟩
    rw [yh]
    have p1 := Wp.1
    by_cases c : K ≤ k
    · rw [if_pos (by omega)]
    · rw [if_neg (by omega)]; exact kb.2 k p' z0 (by omega) z2 z3
  have ho := fC fW_objects (by decide)
  have Rt' : RWt σ' τ' := by
    obtain ⟨q1, q2, q3⟩ := R5.1
    refine ⟨fun o z0 z1 => ?_, fun k z0 z1 => ?_, fun r a z z0 z1 => ?_⟩
    · rw [ho] at z1
      exact rowT_e (q1 o z0 z1) (fC _ (by decide)) (fC _ (by decide)) (fC _ (by decide)) (fun a _ _ => by rw [fM _ (by decide)])
    · rw [xk] at z1
      by_cases c : K ≤ k
      · intro a a0 a1
        have t0 : ∀ b, 0 ≤ b → b < 24 → σ fW_told (24 + k) b = 0 := fun b b0 b1 => q3 (24 + k) b (Or.inr ⟨by omega, by omega⟩) b0 b1
        rw [fC fW_told (by decide), fC fW_adjectives (by decide), fC fW_contraries (by decide), yi, if_pos (by omega), t0 a a0 a1]
        refine ⟨Or.inl rfl, ?_⟩
        by_cases c2 : a < σ fW_adjectives 0 0 ∧ σ fW_contraries 0 a ≠ -1
        · refine Or.inl ⟨c2.1, c2.2, ?_, Or.inl rfl⟩
          have w := ((Wa.2.2.2 a a0 c2.1).2.resolve_left (fun z => c2.2 z.1))
          have a24 := Wa.2.1
          unfold tv
          rw [fC fW_told (by decide), fC fW_contraries (by decide), t0 a a0 a1, if_pos rfl, t0 _ w.1 (by omega), if_pos rfl]
        · exact Or.inr ⟨by omega, rfl, rfl⟩
      · exact rowT_e (q2 k z0 (by omega)) (fC _ (by decide)) (fC _ (by decide)) (fC _ (by decide)) (fun a _ _ => by rw [yi, if_neg (by omega)])
    · rw [ho, xk] at z
      rw [fC fW_told (by decide)]
      exact q3 r a (by omega) z0 z1
  have fH : ∀ G, G ∈ [fW_has, fW_numbers, fW_lengths, fW_properties, fW_propertyTypes, fW_values, fW_valueTypes] → σ' G = σ G := fr_mem fC (by decide)
  have Rh' : RWh σ' τ' := by
    obtain ⟨q1, q2, q3⟩ := R5.2.1
    refine ⟨fun o z0 z1 => ?_, fun k z0 z1 => ?_, fun r a z z0 z1 => ?_⟩
    · rw [ho] at z1
      exact rowH_e (q1 o z0 z1) fH (by rw [fC fT_size (by decide), fC fT_bytes (by decide)]; exact ⟨rfl, rfl⟩) (fun a _ _ => by rw [fM fM_objectTold (by decide), fM fM_objectSays (by decide), fM fM_objectLong (by decide)]; exact ⟨rfl, rfl, rfl⟩)
    · rw [xk] at z1
      by_cases c : K ≤ k
      · intro a a0 a1
        have t0 : σ' fW_has (24 + k) a = 0 := by rw [fC fW_has (by decide)]; exact q3 (24 + k) a (Or.inr ⟨by omega, by omega⟩) a0 a1
        rw [t0, yt, if_pos (by omega)]
        exact ⟨Or.inl rfl, rfl, fun z => absurd rfl z⟩
      · exact rowH_e (q2 k z0 (by omega)) fH (by rw [fC fT_size (by decide), fC fT_bytes (by decide)]; exact ⟨rfl, rfl⟩) (fun a _ _ => by rw [fM fM_kindSays (by decide), fM fM_kindLong (by decide), yt, if_neg (by omega)]; exact ⟨rfl, rfl, rfl⟩)
    · rw [ho, xk] at z
      rw [fC fW_has (by decide)]
      exact q3 r a (by omega) z0 z1
  exact ⟨σ', τ', hC, hM, fr_sub fC (by decide), fr_sub fM (by decide), ⟨Wk', Wo', Wa', WKt_f Wt (fr_mem fC (by decide)) (fr_mem fM (by decide)), WKv_f Wv (fr_mem fC (by decide)) (fr_mem fM (by decide)), Wp', Wr', WKb_f Wb (fr_mem fC (by decide)) (fr_mem fM (by decide)), Wc', P3.2.1, P3.2.2.1⟩, ⟨Rt', Rh', RWp_pa R5.2.2.1 Wk.1 (fr_mem fC (by decide)) (fr_mem fM (by decide)) (fun k z0 z1 => by rw [xp, if_neg (by omega)]) (fun i z0 z1 => by have := Wo.2.2.2 i z0 z1; omega), RWy_pa R5.2.2.2.1 Wk.1 (fr_mem fC (by decide)) (fr_mem fM (by decide)) (fun k z0 z1 => by rw [xp, if_neg (by omega)]) (fun i z0 z1 => by have := Wo.2.2.2 i z0 z1; omega), RWe_f R5.2.2.2.2 (fr_mem fC (by decide)) (fr_mem fM (by decide))⟩, P3, kb', P1, fC _ (by decide), fC _ (by decide)⟩
end

section
variable {σ τ : ga_S} {f : Int} {N : Nat}
theorem act_10t (E : E0 σ τ f N) {g : Int} (D : DW σ τ g) (R5 : RW5 σ τ) (h8 : tv8 σ) (hs : σ fR_sort 0 0 = 10) (ht : τ fM_sort 0 0 = 10) (hn : ∀ k, 0 ≤ k → k < σ fR_names 0 0 → RU σ τ f N k (σ fR_nameFrom 0 k) (σ fR_nameTo 0 k) ∧ σ fR_nameFrom 0 k < σ fR_nameTo 0 k) (hn0 : 0 ≤ σ fR_names 0 0) (hl : τ fM_listFrom 0 0 = 0 ∧ τ fM_listSize 0 0 = σ fR_names 0 0) (hv : σ fR_isValue 0 0 = 1) (hw : τ fM_what 0 0 = -2) (ha : ∀ j, 0 ≤ j → j < σ fR_names 0 0 → nB σ (wN σ j) ((rg 0 j).map (wN σ)) = true ∧ σ fW_types 0 0 + j < 8) {d : Nat} (hd : 4 ≤ d) (first : Int) : ∃ σ' τ', c_r_act (d + 2) σ = some (1, σ') ∧ c_m_does1 (d + 2) τ first = some (0, τ') ∧ fr a10C σ σ' ∧ fr a10M τ τ' ∧ WK σ' τ' ∧ RW5 σ' τ' ∧ DW σ' τ' g ∧ tv8 σ' ∧ σ' fW_kinds = σ fW_kinds ∧ τ' fM_kindHas = τ fM_kindHas ∧ tkS σ σ' := by
  have E' := E
  obtain ⟨E1, E2, E3, E4⟩ := E
  have ET : ENV σ τ f N ∧ TOK σ τ f N := ⟨E1, E2⟩
  obtain ⟨Wk, Wo, Wa, Wt, Wv, Wp, Wr, Wb, Wc, Wd, Wl⟩ := E4
  obtain ⟨K, eK⟩ : ∃ x, x = σ fW_kinds 0 0 := ⟨_, rfl⟩
  obtain ⟨T, eT⟩ : ∃ x, x = σ fW_types 0 0 := ⟨_, rfl⟩
  obtain ⟨n, en⟩ : ∃ x, x = σ fR_names 0 0 := ⟨_, rfl⟩
  have k5 := Wk.2.1
  have k16 := Wk.1.1
  have t8 := Wt.2.1
  have t2 := Wt.1
  have eK' : τ fM_kinds 0 0 = K := by rw [Wk.2.2.1, eK]
  have eT' : τ fM_types 0 0 = T := by rw [Wt.2.2.1, eT]
  rw [← eK] at k5 k16
  rw [← eT] at t8 t2 ha
  rw [← en] at hn hn0 hl ha
  have n8 : T + n ≤ 8 := by
    by_cases c : n ≤ 0
    · omega
    · have := (ha (n - 1) (by omega) (by omega)).2
      omega
  obtain ⟨wnew, wd⟩ := names_new E2 hn (fun j j0 j1 => (ha j j0 j1).1)
  have N0 : TA σ τ g K T σ τ 0 := by
    refine ⟨⟨tkS_r σ, tkT_r τ, D, fun nm z _ => z, fun j j0 j1 => by omega, fun q l e => ?_⟩, fr_refl _ _, fr_refl _ _, by omega, by omega, fun i => by rw [if_neg (by omega)]⟩
    have := (Wd q l).2 e
    omega
  have loop : ∀ k, 0 ≤ k → k ≤ n → ∀ ρ υ, TA σ τ g K T ρ υ k → ∃ ρ' υ', r_act_417 (d + 1) ρ k = r_act_493 (d + 1) ρ' 0 ∧ m_doKinds_55 d υ K T 1 0 k = m_doKinds_124 d υ' K T 1 0 ∧ TA σ τ g K T ρ' υ' n := by
    refine rg_ind (n := n) ?_ ?_
    · intro k h h0 h1 ρ υ H
      have e : k = n := by omega
      subst e
      refine ⟨ρ, υ, ?_, ?_, H⟩
      · rw [e_r_act_417, H.2.1 fR_names (by decide), ← en, if_neg (by omega)]
      · rw [e_m_doKinds_55, H.2.2.1 fM_listSize (by decide), hl.2, if_neg (by omega)]
    · intro k h ih h0 h1 ρ υ H
      obtain ⟨ρ1, ρ2, υ2, s1, s3, s4, s5, s6, s7⟩ := ta_step ET eT H h0 (by omega) (ha k h0 h).2 (hn k h0 h).1 (hn k h0 h).2 (wnew k h0 h) (d := d) (by omega)
      have q1 : c_w_newType (d + 1) ρ = some (T + k, ρ1) := am_mono s1 (Nat.le_succ d)
      have q3 : c_r_tell (d + 1) ρ1 (σ fR_nameFrom 0 k) (σ fR_nameTo 0 k) 1 (T + k) = some (0, ρ2) := am_mono s3 (Nat.le_succ d)
      obtain ⟨ρ', υ', t1, t2, t3⟩ := ih (by omega) (by omega) ρ2 _ s7
      refine ⟨ρ', υ', ?_, ?_, t3⟩
      · have iv : ρ1 fR_isValue 0 0 = 1 := by rw [s5 _ (by decide), H.2.1 _ (by decide)]; exact hv
        rw [e_r_act_417, H.2.1 fR_names (by decide), ← en, if_pos h, H.2.1 fR_isValue (by decide), if_neg (by omega), q1]
        simp only [Option.bind_some]
        rw [e_r_act_453, ck_ok _ (by omega), ck_ok _ (by omega), if_neg (by omega), e_r_act_480, s5 fR_nameTo (by decide), s5 fR_nameFrom (by decide), H.2.1 fR_nameTo (by decide), H.2.1 fR_nameFrom (by decide), q3]
        simp only [Option.bind_some]
        rw [w32_ok (x := k + 1) (by omega), t1]
      · rw [e_m_doKinds_55, H.2.2.1 fM_listSize (by decide), hl.2, if_pos h, if_neg (by decide), H.2.2.1 fM_listFrom (by decide), hl.1, show (0 : Int) + k = k by omega, w32_ok (x := k) (by omega), H.2.2.2.2.1, s4]
        simp only [Option.bind_some]
        rw [e_m_doKinds_115, s6, w32_ok (x := T + k + 1) (by omega), w32_ok (x := k + 1) (by omega), t2]
  obtain ⟨ρ0, υ0, a1, a2, a3⟩ := loop 0 (Int.le_refl _) hn0 σ τ N0
  obtain ⟨H1, H2, H3, H4, H5, H6⟩ := a3
  have P0 := pu_0 (v3 := 1) E2 Wl H1 (fun k k0 k1 => (hn k k0 k1).1.2.2.2) (fun k k0 k1 => (wnew k k0 k1).2.1)
  obtain ⟨σ', τ', b1, b2, b3⟩ := pu_loop ET (g := g) (K := K) (T := T) (n := n) (v3 := 1) (ρ0 := ρ0) (υ0 := υ0) (by omega) (by omega) (by omega) (Or.inr ⟨by decide, by rw [H2 _ (by decide)]; omega, H4, n8⟩) hl ⟨H3 _ (by decide), H3 _ (by decide)⟩ ⟨by rw [H2 _ (by decide)]; exact en.symm, H2 _ (by decide), H2 _ (by decide)⟩ hn (fun k k0 k1 => (wnew k k0 k1).1) wd (d := d + 1) (d' := d) (by omega) (by omega) 0 (Int.le_refl _) hn0 ρ0 υ0 P0
  obtain ⟨P1, P2, P3, P4, P5, P6, P7, P8⟩ := b3
  have fC : fr ([fW_types, fW_typeValues] ++ dicL ++ spL) σ σ' := fr_trans H2 (fr_sub P4 (by decide))
  have fM : fr ([fM_types] ++ lexL) τ τ' := fr_trans H3 (fr_sub P5 (by decide))
  have hC : c_r_act (d + 2) σ = some (1, σ') := by
    rw [e_r_act, hs]
    iterate 10 rw [if_neg (by decide)]
    rw [if_pos rfl, a1, b1]
  have hM : c_m_does1 (d + 2) τ first = some (0, τ') := by
    have m55 : m_doKinds_55 d τ K T 1 0 0 = some (0, τ') := by rw [a2, b2]
    have dk : c_m_doKinds (d + 1) τ = some (0, τ') := by
      rw [e_m_doKinds, if_pos hw, eK', eT', e_m_doKinds_24, if_neg (by decide), e_m_doKinds_37, e_m_doKinds_50, m55]
    rw [e_m_does1, ht]
    iterate 10 rw [if_neg (by decide)]
    rw [if_pos rfl, dk]
    rfl
  have xt : σ' fW_types 0 0 = T + n := by rw [P4 _ (by decide)]; exact H4
  have yt : τ' fM_types 0 0 = T + n := by rw [P5 _ (by decide)]; exact H5
  have xv : ∀ i, σ' fW_typeValues 0 i = if T ≤ i ∧ i < T + n then 0 else σ fW_typeValues 0 i := by intro i; rw [P4 _ (by decide)]; exact H6 i
  have cv : ∀ t, cntV σ' t = cntV σ t := by
    intro t; unfold cntV; rw [fC fW_values (by decide), fC fW_valueTypes (by decide)]
  have Wt' : WKt σ' τ' := by
    obtain ⟨q1, q2, q3, q4⟩ := Wt
    refine ⟨by omega, by omega, by omega, fun t z0 z1 => ?_⟩
    rw [xv, cv]
    by_cases c : T ≤ t ∧ t < T + n
    · rw [if_pos c]
      have := cnT_0 (fun v => σ fW_valueTypes 0 v) t (rg 0 (σ fW_values 0 0)) (fun x hx => by
        have m := (rg_mem 0).mp hx
        have := Wv.2.2.2 x m.1 m.2
        show σ fW_valueTypes 0 x ≠ t
        omega)
      exact this.symm
    · rw [if_neg c]; exact q4 t z0 (by omega)
  have Wv' : WKv σ' τ' := by
    obtain ⟨q1, q2, q3, q4⟩ := Wv
    unfold WKv
    rw [fC fW_values (by decide), fC fW_valueTypes (by decide), fM fM_values (by decide), fM fM_valueType (by decide), xt]
    exact ⟨q1, q2, q3, fun v z0 z1 => by have := q4 v z0 z1; exact ⟨this.1, by omega, this.2.2⟩⟩
  have Wp' : WKp σ' τ' := by
    obtain ⟨q1, q2, q3, q4, q5⟩ := Wp
    unfold WKp
    rw [fC fW_properties (by decide), fC fW_propertyTypes (by decide), fC fW_kinds (by decide), fC fW_propertyKinds (by decide), fM fM_properties (by decide), fM fM_propertyType (by decide), fM fM_kindHas (by decide), xt]
    exact ⟨q1, q2, q3, fun p z0 z1 => by have := q4 p z0 z1; exact ⟨this.1, by omega, this.2.2⟩, q5⟩
  refine ⟨σ', τ', hC, hM, fr_sub fC (by decide), fr_sub fM (by decide), ⟨WKk_f Wk (fr_mem fC (by decide)) (fr_mem fM (by decide)), WKo_f Wo (fr_mem fC (by decide)) (fr_mem fM (by decide)), WKa_f Wa (fr_mem fC (by decide)) (fr_mem fM (by decide)), Wt', Wv', Wp', WKr_f Wr (fr_mem fC (by decide)) (fr_mem fM (by decide)), WKb_f Wb (fr_mem fC (by decide)) (fr_mem fM (by decide)), WKc_f Wc (fr_mem fC (by decide)) (fr_mem fM (by decide)), P3.2.1, P3.2.2.1⟩, RW5_f R5 fC (by decide) (by rw [fC fT_size (by decide), fC fT_bytes (by decide)]; exact ⟨rfl, rfl⟩) fM (by decide), P3, fun t z0 z1 => ?_, fC _ (by decide), fM _ (by decide), P1⟩
  rw [xv]
  by_cases c : T ≤ t ∧ t < T + n
  · rw [if_pos c]; decide
  · rw [if_neg c]; exact h8 t z0 (by omega)
end

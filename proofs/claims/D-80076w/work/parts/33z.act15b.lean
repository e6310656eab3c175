section
variable {σ τ : ga_S} {f : Int} {N : Nat}
/-- what an act of adjectives ends in -/
def ajZ (σ τ : ga_S) (g : Int) (C M : Option (Int × ga_S)) : Prop := ∃ b σ' τ', C = some (b, σ') ∧ M = some (0, τ') ∧ ((b = 1 ∧ fr (fR_latest :: ajC) σ σ' ∧ fr (fM_kindIs :: fM_kindTold :: fM_kindSays :: fM_kindLong :: ajM) τ τ' ∧ σ' fR_fault 0 0 = 0 ∧ τ' fM_bestFault 0 0 = 0 ∧ AW σ τ g σ' τ' ∧ ((σ' fR_latest = σ fR_latest ∧ τ' fM_described = τ fM_described) ∨ (τ' fM_described 0 0 = σ' fR_latest 0 0 ∧ 0 ≤ σ' fR_latest 0 0 ∧ σ' fR_latest 0 0 < σ' fW_objects 0 0))) ∨ (b = 0 ∧ ∃ t, AF σ' τ' 5 t ∧ fr (fR_latest :: ajC) σ σ' ∧ fr (fM_kindIs :: fM_kindTold :: fM_kindSays :: fM_kindLong :: ajM) τ τ'))
theorem act_15a (E : E0 σ τ f N) {g : Int} (D : DW σ τ g) (R5 : RW5 σ τ) (kb : kb0 σ τ) (hf : σ fR_fault 0 0 = 0) (hb : τ fM_bestFault 0 0 = 0) (hs : σ fR_sort 0 0 = 15) (ht : τ fM_sort 0 0 = 15) (hy : σ fR_isTyped 0 0 = 0) (hdc : σ fR_isDescribed 0 0 = 0) (hu : σ fR_usually 0 0 = 0) (hh : τ fM_how 0 0 = 4) (hst : τ fM_story 0 = σ fT_bytes 0) (nt : Bool) (hnt : σ fR_not 0 0 = b2i nt) (hnt' : τ fM_isNot 0 0 = b2i nt) (hl : τ fM_listFrom 0 0 = 0 ∧ τ fM_listSize 0 0 = σ fR_names 0 0) (hw : 0 ≤ τ fM_what 0 0 ∧ τ fM_what 0 0 < 2600) (R0 : RU σ τ f N (τ fM_what 0 0) (σ fR_runFrom 0 0) (σ fR_runTo 0 0)) (hn : ∀ k, 0 ≤ k → k < σ fR_names 0 0 → RU σ τ f N k (σ fR_nameFrom 0 k) (σ fR_nameTo 0 k)) (hob : ∀ k, 0 ≤ k → k < σ fR_names 0 0 → dN σ (nN σ k) 2 ≠ -1 ∧ aC σ (nR σ 0) (σ fW_kindOf 0 (dN σ (nN σ k) 2)) nt false = 1) (hn1 : 1 ≤ σ fR_names 0 0 ∧ σ fR_names 0 0 ≤ 2500) {d : Nat} (hd : 6 ≤ d) (first : Int) : ajZ σ τ g (c_r_act (d + 2) σ) (c_m_does1 (d + 2) τ first) := by
  have ET : ENV σ τ f N ∧ TOK σ τ f N := ⟨E.1, E.2.1⟩
  have A0 : AW σ τ g σ τ := ⟨tkS_r σ, tkT_r τ, E.2.2.2, R5, D, kb, NW_e rfl rfl⟩
  have RN0 := hn 0 (Int.le_refl _) (by omega)
  have hO0 := (hob 0 (Int.le_refl _) (by omega)).1
  have rO := e0_dN E (nN σ 0) 2
  have m2 : mxN σ 2 = σ fW_objects 0 0 := rfl
  have loop : ∀ k, 0 ≤ k → k ≤ σ fR_names 0 0 → ∀ ρ υ, AJ σ τ g ρ υ k → (∃ ρ' υ', r_adjectives_95 d ρ (σ fR_runFrom 0 0) (σ fR_runTo 0 0) k = some (1, ρ') ∧ m_doFifteen_190 d υ (f + σ fR_runFrom 0 0) k = some (0, υ') ∧ fr (fR_latest :: ajC) σ ρ' ∧ fr ajM τ υ' ∧ ρ' fR_fault 0 0 = 0 ∧ υ' fM_bestFault 0 0 = 0 ∧ AW σ τ g ρ' υ' ∧ υ' fM_described 0 0 = ρ' fR_latest 0 0 ∧ ρ' fR_latest 0 0 = dN σ (nN σ 0) 2) ∨ (∃ ρ' υ' t, r_adjectives_95 d ρ (σ fR_runFrom 0 0) (σ fR_runTo 0 0) k = some (0, ρ') ∧ m_doFifteen_190 d υ (f + σ fR_runFrom 0 0) k = some (0, υ') ∧ AF ρ' υ' 5 t ∧ fr ajC σ ρ' ∧ fr ajM τ υ') := by
    refine rg_ind (n := σ fR_names 0 0) ?_ ?_
    · intro k h h0 h1 ρ υ H
      obtain ⟨A, S1, S2, S3, S4, S5⟩ := H
      have ac := aL_c (fr_mem S1 (M := ajF) (by decide))
      obtain ⟨ρ1, a1, a2⟩ := k_objectAt ET A.1 A.2.2.2.2.1.1 (k := 0) RN0.2.2.2 (by omega) (by rw [S1 _ (by decide)]) (by rw [S1 _ (by decide)]) (d := d) (by omega)
      have a1' : c_r_objectAt d ρ 0 = some (dN σ (nN σ 0) 2, ρ1) := by rw [a1, ac.2.2.2.2]; rfl
      obtain ⟨ρ2, e2⟩ : ∃ x, x = ga_up ρ1 fR_latest 0 0 (dN σ (nN σ 0) 2) := ⟨_, rfl⟩
      have f2 : fr [fR_latest] ρ1 ρ2 := by rw [e2]; exact fr_u (by decide)
      have la : ρ2 fR_latest 0 0 = dN σ (nN σ 0) 2 := by rw [e2, up_eq]
      refine Or.inl ⟨ρ2, υ, ?_, ?_, fr_trans (fr_sub S1 (by decide)) (fr_trans (fr_sub a2 (by decide)) (fr_sub f2 (by decide))), S2, by rw [f2 _ (by decide), a2 _ (by decide)]; exact S3, S4, AW_f (AW_sp A a2) f2 (by decide) (fr_refl [] υ) (by decide), by rw [la]; exact S5 (by omega), la⟩
      · rw [e_r_adjectives_95, S1 fR_names (by decide), if_neg (by omega), a1']
        simp only [Option.bind_some]
        rw [← e2]
      · rw [e_m_doFifteen_190, S2 fM_listSize (by decide), hl.2, if_neg (by omega)]
    · intro k h ih h0 h1 ρ υ H
      rcases aj_step E hst nt hnt hnt' hl hw R0 hn hob ⟨h0, h⟩ (by omega) H (d := d) (d' := d) hd (by omega) with ⟨ρ', υ', s1, s2, s3⟩ | ⟨ρ', υ', s1, s2, s3⟩
      · rcases ih (by omega) (by omega) ρ' υ' s3 with ⟨ρ2, υ2, t1, t2, t3⟩ | ⟨ρ2, υ2, t, t1, t2, t3⟩
        · exact Or.inl ⟨ρ2, υ2, s1.trans t1, s2.trans t2, t3⟩
        · exact Or.inr ⟨ρ2, υ2, t, s1.trans t1, s2.trans t2, t3⟩
      · exact Or.inr ⟨ρ', υ', _, s1, s2, s3⟩
  have top : ∀ b ρ', (b = 0 ∨ b = 1) → r_adjectives_95 d σ (σ fR_runFrom 0 0) (σ fR_runTo 0 0) 0 = some (b, ρ') → c_r_act (d + 2) σ = some (b, ρ') := by
    intro b ρ' hb' h
    have ra : c_r_adjectives (d + 1) σ = some (b, ρ') := by rw [e_r_adjectives, if_pos hu, h]
    rw [e_r_act, hs]
    iterate 15 rw [if_neg (by decide)]
    rw [if_pos rfl, if_pos hy, if_pos hdc, ra]
    simp only [Option.bind_some]
    rw [z1_ok _ hb']
  have topM : ∀ υ', m_doFifteen_190 d τ (f + σ fR_runFrom 0 0) 0 = some (0, υ') → c_m_does1 (d + 2) τ first = some (0, υ') := by
    intro υ' h
    have m15 : c_m_doFifteen (d + 1) τ = some (0, υ') := by
      rw [e_m_doFifteen, ck_ok _ hw, hh, if_neg (by decide), if_neg (by decide), if_neg (by decide), R0.2.1, h]
    rw [e_m_does1, ht]
    iterate 15 rw [if_neg (by decide)]
    rw [if_pos rfl, m15]
    rfl
  rcases loop 0 (Int.le_refl _) (by omega) σ τ ⟨A0, fr_refl _ _, fr_refl _ _, hf, hb, fun z => absurd z (by decide)⟩ with ⟨ρ', υ', s1, s2, s3, s4, s5, s6, s7, s8, s9⟩ | ⟨ρ', υ', t, s1, s2, s3⟩
  · refine ⟨1, ρ', υ', top 1 ρ' (Or.inr rfl) s1, topM υ' s2, Or.inl ⟨rfl, s3, fr_sub s4 (by decide), s5, s6, s7, Or.inr ⟨s8, by omega, ?_⟩⟩⟩
    rw [s9, s3 _ (by decide)]; omega
  · exact ⟨0, ρ', υ', top 0 ρ' (Or.inl rfl) s1, topM υ' s2, Or.inr ⟨rfl, t, s3.1, fr_sub s3.2.1 (by decide), fr_sub s3.2.2 (by decide)⟩⟩
/-- one word of a description is told of a kind -/
theorem item_K {ρ υ : ga_S} {g : Int} (A : AW σ τ g ρ υ) (hst : υ fM_story 0 = ρ fT_bytes 0) (sz : ρ fT_size 0 0 ≤ 5000) (hf : ρ fR_fault 0 0 = 0) {o w v c t : Int} (ho : 0 ≤ o ∧ o < ρ fW_kinds 0 0) (hi : itO ρ w v c) (ht : 0 ≤ t ∧ t < 5002) {d d' : Nat} (hd : 3 ≤ d) (hd' : 3 ≤ d') : ∃ b ρ' υ', (if v = -1 then c_r_hold d ρ (24 + o) w t else c_r_set d ρ (24 + o) w v 0 t) = some (b, ρ') ∧ (if c < 100 then c_m_tellIs_kindIs d' υ (24 * o) c 1 else c_m_tellKind d' υ o (w32 (Int.tmod c 100)) (w32 (w32 (Int.tdiv c 100) - 1)) 0) = some (b, υ') ∧ (b = 0 ∨ b = 1) ∧ fr itC ρ ρ' ∧ fr [fM_kindIs, fM_kindTold, fM_kindSays, fM_kindLong] υ υ' ∧ ((b = 1 ∧ fr (fW_told :: stW) ρ ρ' ∧ AW σ τ g ρ' υ') ∨ (b = 0 ∧ υ' = υ ∧ ρ' fR_fault 0 0 = 5 ∧ ρ' fR_where 0 0 = ρ fT_places 0 t)) := by
  have AA := A
  obtain ⟨A1, A2, ⟨Wk, Wo, Wa, Wt, Wv, Wp, _⟩, A4, A5, A6⟩ := A
  have o24 := Wo.2.1
  have k16 := Wk.1.1
  have v64 := Wv.2.1
  have p12 := Wp.2.1
  have a24 := Wa.2.1
  rcases hi with ⟨i1, i2, i3, i4, i5⟩ | ⟨i1, i2, i3, i4, i5, i6, i7⟩
  · obtain ⟨b, ρ', υ', s1, s2, s3, s4, s5⟩ := hold_K Wa A4.1 hf (o := o) (a := w) (t := t) (a2 := w) (w := 1) ho k16 o24 (by have := Wk.2.1; omega) ⟨i3, i4⟩ i5 (Or.inl ⟨rfl, rfl⟩) ht (d := d) (d' := d') hd (by omega)
    have hb : b = 0 ∨ b = 1 := by rcases s5 with z | z; exact Or.inr z.1; exact Or.inl z.1
    refine ⟨b, ρ', υ', by rw [if_pos i1]; exact s1, by rw [if_pos (by omega), i2]; exact s2, hb, fr_sub s3 (by decide), fr_sub s4 (by decide), ?_⟩
    rcases s5 with ⟨z1, z2, z3⟩ | z
    · exact Or.inl ⟨z1, fr_sub z2 (by decide), AW_rt AA z2 (fr_sub s4 (by decide)) z3⟩
    · exact Or.inr z
  · have w0 := Wv.2.2.2 v i2 i3
    obtain ⟨b, ρ', υ', s1, s2, s3, s4, s5⟩ := set_K Wp A4.2.1 hst sz hf (o := o) (p := w) (v := v) (n := 0) (m := 0) (t := t) (fun _ => rfl) ho k16 o24 (by have := Wk.2.1; omega) ⟨i5, i6⟩ ⟨fun z => by omega, fun z => by omega, fun _ => ⟨i2, i3, i7⟩⟩ ht (d := d) (d' := d') hd (by omega)
    have hb : b = 0 ∨ b = 1 := by rcases s5 with z | z; exact Or.inr z.1; exact Or.inl z.1
    have e1 : w32 (Int.tmod c 100) = w := by rw [Int.tmod_eq_emod_of_nonneg (by omega), w32_ok (by omega)]; omega
    have e2 : w32 (w32 (Int.tdiv c 100) - 1) = v := by
      have : w32 (Int.tdiv c 100) = v + 1 := by rw [Int.tdiv_eq_ediv_of_nonneg (by omega), w32_ok (by omega)]; omega
      rw [this, w32_ok (by omega)]; omega
    refine ⟨b, ρ', υ', by rw [if_neg i1]; exact s1, by rw [if_neg (by omega), e1, e2]; exact s2, hb, fr_sub s3 (by decide), fr_sub s4 (by decide), ?_⟩
    rcases s5 with ⟨z1, z2, z3⟩ | z
    · exact Or.inl ⟨z1, fr_sub z2 (by decide), AW_rh AA z2 (fr_sub s4 (by decide)) z3⟩
    · exact Or.inr z
theorem act_15u (E : E0 σ τ f N) {g : Int} (D : DW σ τ g) (R5 : RW5 σ τ) (kb : kb0 σ τ) (hf : σ fR_fault 0 0 = 0) (hb : τ fM_bestFault 0 0 = 0) (hs : σ fR_sort 0 0 = 15) (ht : τ fM_sort 0 0 = 15) (hy : σ fR_isTyped 0 0 = 0) (hdc : σ fR_isDescribed 0 0 = 0) (hu : σ fR_usually 0 0 ≠ 0) (hh : τ fM_how 0 0 = 1) (hst : τ fM_story 0 = σ fT_bytes 0) (hl : τ fM_listFrom 0 0 = 0) (hw : 0 ≤ τ fM_what 0 0 ∧ τ fM_what 0 0 < 2600) (hr : frB σ N (σ fR_runFrom 0 0) (σ fR_runTo 0 0)) (RN : RU σ τ f N 0 (σ fR_nameFrom 0 0) (σ fR_nameTo 0 0)) (hk : σ fR_kind0 0 0 = dN σ (nN σ 0) 0) (hk1 : dN σ (nN σ 0) 0 ≠ -1) (hA : aC σ (nR σ 0) (dN σ (nN σ 0) 0) false false = 1) (hR : ∀ x, aL σ (nR σ 0) (dN σ (nN σ 0) 0) false false = [x] → τ fM_readAdjective 0 0 = x) {d : Nat} (hd : 6 ≤ d) (first : Int) : ajZ σ τ g (c_r_act (d + 2) σ) (c_m_does1 (d + 2) τ first) := by
  have ET : ENV σ τ f N ∧ TOK σ τ f N := ⟨E.1, E.2.1⟩
  have A0 : AW σ τ g σ τ := ⟨tkS_r σ, tkT_r τ, E.2.2.2, R5, D, kb, NW_e rfl rfl⟩
  obtain ⟨K, eK⟩ : ∃ x, x = dN σ (nN σ 0) 0 := ⟨_, rfl⟩
  have rK := e0_dN E (nN σ 0) 0
  have m0 : mxN σ 0 = σ fW_kinds 0 0 := rfl
  rw [← eK] at rK hk hk1 hA hR
  have t0 := frB_t RN.2.2.2
  have hN5 := E.1.2.2.1
  have fN := E.1.2.1
  have f0 := E.1.1
  have k16 := E.2.2.2.1.1.1
  obtain ⟨ρ2, b1, b2, b3, b4, b5, b6⟩ := k_adjective E (KC_r σ) hr (kind := K) (by omega) false false (d := d) (by omega)
  obtain ⟨x, x1, x2, _⟩ := aL_one E (nm := nR σ 0) (kind := K) (nv := false) hA
  have rx := hR x x1
  have A2 := AW_f A0 b2 (by decide) (fr_refl [] τ) (by decide)
  obtain ⟨dn, edn⟩ : ∃ y, y = dN σ (nR σ 0) 3 := ⟨_, rfl⟩
  have b4' : ρ2 fR_foundAdjective 0 0 = dn := by rw [edn]; exact b4
  have f2 : ρ2 fR_fault 0 0 = 0 := by rw [b2 _ (by decide)]; exact hf
  have io : itO ρ2 (if dn = -1 then aP σ (nR σ 0) K false else dn) (if dn = -1 then fvN σ (nR σ 0) false else -1) x := by
    rw [edn]
    unfold itO at x2 ⊢
    rw [b2 fW_adjectives (by decide), b2 fW_contraries (by decide), b2 fW_values (by decide), b2 fW_properties (by decide), b2 fW_valueTypes (by decide), b2 fW_propertyTypes (by decide)]
    exact x2
  obtain ⟨b, ρ3, υ3, s1, s2, s3, s4, s5, s6⟩ := item_K A2 (by rw [b2 _ (by decide)]; exact hst) (by rw [b2 _ (by decide)]; exact E.2.1.1.1) f2 (o := K) (by rw [b2 _ (by decide)]; omega) io (t := σ fR_nameFrom 0 0) (by omega) (d := d) (d' := d) (by omega) (by omega)
  have p6 : ρ2 fR_foundProperty 0 0 = aP σ (nR σ 0) K false := b6
  have p5 : ρ2 fR_foundValue 0 0 = fvN σ (nR σ 0) false := b5
  have runC : c_r_act (d + 2) σ = some (b, ρ3) := by
    have ra : c_r_adjectives (d + 1) σ = some (b, ρ3) := by
      have b1' : c_r_adjective d σ (σ fR_runFrom 0 0) (σ fR_runTo 0 0) K 0 0 = some (_, ρ2) := b1
      rw [e_r_adjectives, if_neg hu, hk, b1']
      simp only [Option.bind_some]
      rw [b4', p6, p5, b2 fR_kind0 (by decide), hk, b2 fR_nameFrom (by decide), w32_ok (x := 24 + K) (by omega)]
      by_cases q : dn = -1
      · rw [if_pos q, if_pos q] at s1
        have vn : fvN σ (nR σ 0) false ≠ -1 := by
          intro z
          have hA' := hA
          unfold aC at hA'
          rw [← edn, if_pos q, if_pos z] at hA'
          exact absurd hA' (by decide)
        rw [if_neg vn] at s1
        rw [if_pos q, s1]
        simp only [Option.bind_some]
        rw [z1_ok _ s3]
      · rw [if_neg q, if_neg q, if_pos rfl] at s1
        rw [if_neg q, s1]
        simp only [Option.bind_some]
        rw [z1_ok _ s3]
    rw [e_r_act, hs]
    iterate 15 rw [if_neg (by decide)]
    rw [if_pos rfl, if_pos hy, if_pos hdc, ra]
    simp only [Option.bind_some]
    rw [z1_ok _ s3]
  have b1m : c_m_meansRun d τ 0 0 = some (K, τ) := by rw [m_meansA ET (tkT_r τ) E.2.2.1 RN (by omega) 0, mN_dN (s := 0) (by omega), eK]; rfl
  have run15 : c_m_doFifteen (d + 1) τ = m_doFifteen_74 d υ3 b := by
    rw [e_m_doFifteen, ck_ok _ hw, if_pos hh, hl, b1m]
    simp only [Option.bind_some]
    rw [rx]
    by_cases q : x < 100
    · rw [if_pos q] at s2
      rw [if_pos q, w32_ok (x := 24 * K) (by omega), s2]
      simp only [Option.bind_some]
    · rw [if_neg q] at s2
      rw [if_neg q, s2]
      simp only [Option.bind_some]
  have topM : ∀ υ', c_m_doFifteen (d + 1) τ = some (0, υ') → c_m_does1 (d + 2) τ first = some (0, υ') := by
    intro υ' h
    rw [e_m_does1, ht]
    iterate 15 rw [if_neg (by decide)]
    rw [if_pos rfl, h]
    rfl
  have g3 : υ3 fM_bestFault 0 0 = 0 := by rw [s5 _ (by decide)]; exact hb
  rcases s6 with ⟨z, z1, z2⟩ | ⟨z, z1, z2, z3⟩
  · rw [z, e_m_doFifteen_74, if_neg (by decide), e_m_doFifteen_95] at run15
    exact ⟨b, ρ3, υ3, runC, topM υ3 run15, Or.inl ⟨z, fr_trans (fr_sub b2 (by decide)) (fr_sub s4 (by decide)), fr_sub s5 (by decide), by rw [z1 _ (by decide)]; exact f2, g3, z2, Or.inl ⟨by rw [s4 _ (by decide), b2 _ (by decide)], s5 _ (by decide)⟩⟩⟩
  · obtain ⟨υ4, w1, w2, w3, w4⟩ := m_wrongA hb (t := f + σ fR_nameFrom 0 0) (why := 5) (by omega) (d := d) (by omega)
    rw [z, z1, e_m_doFifteen_74, if_pos rfl, hl, ck_ok _ (by omega), RN.2.1, w1] at run15
    simp only [Option.bind_some] at run15
    rw [e_m_doFifteen_95] at run15
    refine ⟨b, ρ3, υ4, runC, topM υ4 run15, Or.inr ⟨z, σ fT_places 0 (σ fR_nameFrom 0 0), ⟨z2, ?_, w3, ?_⟩, fr_trans (fr_sub b2 (by decide)) (fr_sub s4 (by decide)), fr_sub w2 (by decide)⟩⟩
    · rw [z3, b2 _ (by decide)]
    · rw [w4]; exact (E.2.1.2.1 _ t0.1 (by omega)).2.2.2
end

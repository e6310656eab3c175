section
variable {σ τ : ga_S} {f : Int} {N : Nat}
theorem pc_loop {τ0 : ga_S} (E : E0 σ τ f N) {g : Int} (P : pcP σ τ τ0 f N) (Dd : pcD σ τ0) (hst : τ0 fM_story 0 = σ fT_bytes 0) (hT : fr [fM_placeWay] τ τ0) (hl : τ fM_listFrom 0 0 = 0 ∧ τ fM_listSize 0 0 = σ fR_names 0 0) (hn : ∀ k, 0 ≤ k → k < σ fR_names 0 0 → RU σ τ f N k (σ fR_nameFrom 0 k) (σ fR_nameTo 0 k) ∧ σ fR_nameFrom 0 k < σ fR_nameTo 0 k) (hobs : obAll σ) (hn1 : 1 ≤ σ fR_names 0 0 ∧ σ fR_names 0 0 ≤ 2500) {d d' : Nat} (hd : 6 ≤ d) (hd' : 5 ≤ d') : ∀ k, 0 ≤ k → k ≤ σ fR_names 0 0 → ∀ ρ υ, pcQ σ τ τ0 g ρ υ k → (∃ ρ' υ', r_places_2 d ρ k = some (1, ρ') ∧ m_doDescribed_2 d' υ k = some (0, υ') ∧ fr (fR_latest :: pcC) σ ρ' ∧ fr pcM τ0 υ' ∧ ρ' fR_fault 0 0 = 0 ∧ υ' fM_bestFault 0 0 = 0 ∧ AW σ τ g ρ' υ' ∧ υ' fM_described 0 0 = ρ' fR_latest 0 0 ∧ 0 ≤ ρ' fR_latest 0 0 ∧ ρ' fR_latest 0 0 < ρ' fW_objects 0 0) ∨ (∃ ρ' υ' why t, r_places_2 d ρ k = some (0, ρ') ∧ m_doDescribed_2 d' υ k = some (0, υ') ∧ (why = 5 ∨ why = 6) ∧ AF ρ' υ' why t ∧ fr pcC σ ρ' ∧ fr pcM τ0 υ') := by
  refine rg_ind (n := σ fR_names 0 0) ?_ ?_
  · intro k h h0 h1 ρ υ H
    have e : k = σ fR_names 0 0 := by omega
    obtain ⟨H1, ⟨S1, S2, S3, S4⟩, H3, H4, H5, H6⟩ := H
    have w := H6 (by omega)
    obtain ⟨RN, lt⟩ := hn 0 (Int.le_refl _) (by omega)
    obtain ⟨ρ1, a1, a2⟩ := k_objectAt ⟨E.1, E.2.1⟩ H1.1 H1.2.2.2.2.1.1 (k := 0) RN.2.2.2 (by omega) (by rw [S1 _ (by decide)]) (by rw [S1 _ (by decide)]) (d := d) (by omega)
    have a1' : c_r_objectAt d ρ 0 = some (υ fM_described 0 0, ρ1) := by rw [a1, ← w.1]; rfl
    obtain ⟨ρ2, e2⟩ : ∃ x, x = ga_up ρ1 fR_latest 0 0 (υ fM_described 0 0) := ⟨_, rfl⟩
    have f2 : fr [fR_latest] ρ1 ρ2 := by rw [e2]; exact fr_u (by decide)
    have la : ρ2 fR_latest 0 0 = υ fM_described 0 0 := by rw [e2, up_eq]
    refine Or.inl ⟨ρ2, υ, ?_, ?_, fr_trans (fr_sub S1 (by decide)) (fr_trans (fr_sub a2 (by decide)) (fr_sub f2 (by decide))), S2, by rw [f2 _ (by decide), a2 _ (by decide)]; exact S3, S4, AW_f (AW_sp H1 a2) f2 (by decide) (fr_refl [] υ) (by decide), la.symm, by rw [la]; exact w.2.1, by rw [la, f2 _ (by decide), a2 _ (by decide)]; exact w.2.2.1⟩
    · rw [e_r_places_2, S1 fR_names (by decide), if_neg (by omega), a1']
      simp only [Option.bind_some]
      rw [← e2]
    · rw [e_m_doDescribed_2, S2 fM_listSize (by decide), hT fM_listSize (by decide), hl.2, if_neg (by omega)]
  · intro k h ih h0 h1 ρ υ H
    rcases pc_step E P Dd hst hT hl hn hobs ⟨h0, h⟩ (by omega) H (d := d) (d' := d') hd hd' with ⟨ρ', υ', s1, s2, s3⟩ | ⟨ρ', υ', why, s1, s2, s3, s4⟩
    · rcases ih (by omega) (by omega) ρ' υ' s3 with ⟨ρ2, υ2, t1, t2, t3⟩ | ⟨ρ2, υ2, why, t, t1, t2, t3⟩
      · exact Or.inl ⟨ρ2, υ2, s1.trans t1, s2.trans t2, t3⟩
      · exact Or.inr ⟨ρ2, υ2, why, t, s1.trans t1, s2.trans t2, t3⟩
    · exact Or.inr ⟨ρ', υ', why, _, s1, s2, s3, s4⟩
/-- what an act of described objects ends in -/
def pcZ (σ τ : ga_S) (g : Int) (C M : Option (Int × ga_S)) : Prop := ∃ b σ' τ', C = some (b, σ') ∧ M = some (0, τ') ∧ ((b = 1 ∧ fr (fR_latest :: pcC) σ σ' ∧ fr (fM_placeWay :: pcM) τ τ' ∧ σ' fR_fault 0 0 = 0 ∧ τ' fM_bestFault 0 0 = 0 ∧ AW σ τ g σ' τ' ∧ τ' fM_described 0 0 = σ' fR_latest 0 0 ∧ 0 ≤ σ' fR_latest 0 0 ∧ σ' fR_latest 0 0 < σ' fW_objects 0 0) ∨ (b = 0 ∧ ∃ why t, (why = 5 ∨ why = 6) ∧ AF σ' τ' why t ∧ fr (fR_latest :: pcC) σ σ' ∧ fr (fM_placeWay :: pcM) τ τ'))
theorem places_J {τ0 : ga_S} (E : E0 σ τ f N) {g : Int} (D : DW σ τ g) (R5 : RW5 σ τ) (kb : kb0 σ τ) (hf : σ fR_fault 0 0 = 0) (hb : τ fM_bestFault 0 0 = 0) (P : pcP σ τ τ0 f N) (Dd : pcD σ τ0) (hst : τ fM_story 0 = σ fT_bytes 0) (hT : fr [fM_placeWay] τ τ0) (hl : τ fM_listFrom 0 0 = 0 ∧ τ fM_listSize 0 0 = σ fR_names 0 0) (hn : ∀ k, 0 ≤ k → k < σ fR_names 0 0 → RU σ τ f N k (σ fR_nameFrom 0 k) (σ fR_nameTo 0 k) ∧ σ fR_nameFrom 0 k < σ fR_nameTo 0 k) (hobs : obAll σ) (hn1 : 1 ≤ σ fR_names 0 0 ∧ σ fR_names 0 0 ≤ 2500) {d d' : Nat} (hd : 7 ≤ d) (hd' : 6 ≤ d') : pcZ σ τ g (c_r_places d σ) (c_m_doDescribed d' τ0) := by
  obtain ⟨d, rfl⟩ : ∃ e, d = e + 1 := ⟨d - 1, by omega⟩
  obtain ⟨d', rfl⟩ : ∃ e, d' = e + 1 := ⟨d' - 1, by omega⟩
  have A0 : AW σ τ g σ τ := ⟨tkS_r σ, tkT_r τ, E.2.2.2, R5, D, kb, NW_e rfl rfl⟩
  have A1 : AW σ τ g σ τ0 := AW_f A0 (fr_refl [] σ) (by decide) hT (by decide)
  have Q0 : pcQ σ τ τ0 g σ τ0 0 := ⟨A1, ⟨fr_refl _ _, fr_refl _ _, hf, by rw [hT _ (by decide)]; exact hb⟩, fun nm z => ⟨z, fun _ => rfl⟩, fun nm z _ => z, by unfold nwS; rw [rg_n (Int.le_refl _)]; simp, fun z => absurd z (by decide)⟩
  rcases pc_loop E P Dd (by rw [hT _ (by decide)]; exact hst) hT hl hn hobs hn1 (d := d) (d' := d') (by omega) (by omega) 0 (Int.le_refl _) (by omega) σ τ0 Q0 with ⟨ρ', υ', s1, s2, s3, s4, s5, s6, s7, s8, s9, s10⟩ | ⟨ρ', υ', why, t, s1, s2, s3, s4, s5, s6⟩
  · exact ⟨1, ρ', υ', by rw [e_r_places, s1], by rw [e_m_doDescribed, s2], Or.inl ⟨rfl, s3, fr_trans (fr_sub hT (by decide)) (fr_sub s4 (by decide)), s5, s6, s7, s8, s9, s10⟩⟩
  · exact ⟨0, ρ', υ', by rw [e_r_places, s1], by rw [e_m_doDescribed, s2], Or.inr ⟨rfl, why, t, s3, s4, fr_sub s5 (by decide), fr_trans (fr_sub hT (by decide)) (fr_sub s6 (by decide))⟩⟩
theorem act_12 (E : E0 σ τ f N) {g : Int} (D : DW σ τ g) (R5 : RW5 σ τ) (kb : kb0 σ τ) (hf : σ fR_fault 0 0 = 0) (hb : τ fM_bestFault 0 0 = 0) (hs : σ fR_sort 0 0 = 12 ∨ σ fR_sort 0 0 = 13) (ht : τ fM_sort 0 0 = σ fR_sort 0 0) (P : pcP σ τ τ f N) (Dd : pcD σ τ) (hst : τ fM_story 0 = σ fT_bytes 0) (hl : τ fM_listFrom 0 0 = 0 ∧ τ fM_listSize 0 0 = σ fR_names 0 0) (hn : ∀ k, 0 ≤ k → k < σ fR_names 0 0 → RU σ τ f N k (σ fR_nameFrom 0 k) (σ fR_nameTo 0 k) ∧ σ fR_nameFrom 0 k < σ fR_nameTo 0 k) (hobs : obAll σ) (hn1 : 1 ≤ σ fR_names 0 0 ∧ σ fR_names 0 0 ≤ 2500) {d : Nat} (hd : 7 ≤ d) (first : Int) : pcZ σ τ g (c_r_act (d + 1) σ) (c_m_does1 (d + 1) τ first) := by
  obtain ⟨b, σ', τ', s1, s2, s3⟩ := places_J E D R5 kb hf hb P Dd hst (fr_refl _ τ) hl hn hobs hn1 (d := d) (d' := d) hd (by omega)
  have hb' : b = 0 ∨ b = 1 := by rcases s3 with z | z; exact Or.inr z.1; exact Or.inl z.1
  refine ⟨b, σ', τ', ?_, ?_, s3⟩
  · rcases hs with z | z
    · rw [e_r_act, z]
      iterate 12 rw [if_neg (by decide)]
      rw [if_pos rfl, s1]
      simp only [Option.bind_some]
      rw [z1_ok _ hb']
    · rw [e_r_act, z]
      iterate 13 rw [if_neg (by decide)]
      rw [if_pos rfl, s1]
      simp only [Option.bind_some]
      rw [z1_ok _ hb']
  · rcases hs with z | z
    · rw [e_m_does1, ht, z]
      iterate 12 rw [if_neg (by decide)]
      rw [if_pos rfl, s2]
      rfl
    · rw [e_m_does1, ht, z]
      iterate 13 rw [if_neg (by decide)]
      rw [if_pos rfl, s2]
      rfl
theorem act_15d (E : E0 σ τ f N) {g : Int} (D : DW σ τ g) (R5 : RW5 σ τ) (kb : kb0 σ τ) (hf : σ fR_fault 0 0 = 0) (hb : τ fM_bestFault 0 0 = 0) (hs : σ fR_sort 0 0 = 15) (ht : τ fM_sort 0 0 = 15) (hy : σ fR_isTyped 0 0 = 0) (hh : τ fM_how 0 0 = 3) (hw : 0 ≤ τ fM_what 0 0 ∧ τ fM_what 0 0 < 2600) (hp : σ fR_placeSort 0 0 = 0) (hdc : σ fR_isDescribed 0 0 ≠ 0) (Dd : pcD σ τ) (hst : τ fM_story 0 = σ fT_bytes 0) (hl : τ fM_listFrom 0 0 = 0 ∧ τ fM_listSize 0 0 = σ fR_names 0 0) (hn : ∀ k, 0 ≤ k → k < σ fR_names 0 0 → RU σ τ f N k (σ fR_nameFrom 0 k) (σ fR_nameTo 0 k) ∧ σ fR_nameFrom 0 k < σ fR_nameTo 0 k) (hobs : obAll σ) (hn1 : 1 ≤ σ fR_names 0 0 ∧ σ fR_names 0 0 ≤ 2500) {d : Nat} (hd : 7 ≤ d) (first : Int) : pcZ σ τ g (c_r_act (d + 2) σ) (c_m_does1 (d + 2) τ first) := by
  obtain ⟨τ0, e0⟩ : ∃ x, x = ga_up τ fM_placeWay 0 0 0 := ⟨_, rfl⟩
  have f0 : fr [fM_placeWay] τ τ0 := by rw [e0]; exact fr_u (by decide)
  have Dd' : pcD σ τ0 := by
    unfold pcD dsR at Dd ⊢
    rw [f0 fM_sort (by decide), f0 fM_readKind (by decide), f0 fM_readCount (by decide), f0 fM_readAdjective (by decide)]
    exact Dd
  obtain ⟨b, σ', τ', s1, s2, s3⟩ := places_J (τ0 := τ0) E D R5 kb hf hb (Or.inl ⟨hp, by rw [e0, up_eq]⟩) Dd' hst f0 hl hn hobs hn1 (d := d + 1) (d' := d) (by omega) (by omega)
  have hb' : b = 0 ∨ b = 1 := by rcases s3 with z | z; exact Or.inr z.1; exact Or.inl z.1
  refine ⟨b, σ', τ', ?_, ?_, s3⟩
  · rw [e_r_act, hs]
    iterate 15 rw [if_neg (by decide)]
    rw [if_pos rfl, if_pos hy, if_neg hdc, s1]
    simp only [Option.bind_some]
    rw [z1_ok _ hb']
  · have m15 : c_m_doFifteen (d + 1) τ = some (0, τ') := by
      rw [e_m_doFifteen, ck_ok _ hw, hh, if_neg (by decide), if_neg (by decide), if_pos rfl, ← e0, s2]
      rfl
    rw [e_m_does1, ht]
    iterate 15 rw [if_neg (by decide)]
    rw [if_pos rfl, m15]
    rfl
end

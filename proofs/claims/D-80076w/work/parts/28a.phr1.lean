/-! a phrase, component -/
def saP (σ0 : ga_S) (a : Int) : Int := σ0 fT_places 0 (a + 1) + 1
def saE (σ0 : ga_S) (a : Int) : Int := σ0 fT_places 0 (a + 1) + 1 + (σ0 fT_lengths 0 (a + 1) - 2)
noncomputable def saV (σ0 : ga_S) (nk a : Int) : Bool := sdV σ0 (σ0 fT_bytes 0) nk (saE σ0 a) (saE σ0 a - saP σ0 a).toNat (saP σ0 a)
def pmV (σ0 : ga_S) (ik nk : Int) (σ3 : ga_S) : Int := thV σ0 ik nk (σ3 fR_placeFrom 0 0) (σ3 fR_placeTo 0 0)
/-- the action of a try -/
def tyX (σ0 σ3 : ga_S) : Int := dN σ0 (nmT σ0 (σ3 fR_propertyFrom 0 0) (σ3 fR_propertyTo 0 0)) 8
def mvC (σ0 : ga_S) (ik nk : Int) (σ3 : ga_S) : Int := if pmV σ0 ik nk σ3 = -1 then 1000000 else if isB (σ0 fW_parents 0) (kdT σ0 ik nk (pmV σ0 ik nk σ3)) 0 = true then 1000000 else cd σ0 (thW σ0 (σ3 fR_placeFrom 0 0) (σ3 fR_placeTo 0 0)) 2
def tyC (σ0 : ga_S) (ik nk : Int) (σ3 : ga_S) : Int := if σ3 fR_thingFrom 0 0 = -1 then cnC σ0 (σ3 fR_propertyFrom 0 0) (acN σ0 false (σ3 fR_propertyFrom 0 0) (σ3 fR_propertyTo 0 0)) else min (if tyX σ0 σ3 = -1 ∨ σ0 fW_actionKinds 0 (tyX σ0 σ3) < 0 then cd σ0 (σ3 fR_propertyFrom 0 0) 2 else 1000000) (thC σ0 ik nk (σ3 fR_thingFrom 0 0) (σ3 fR_thingTo 0 0))
/-- the code of a phrase -/
noncomputable def phCd (σ0 : ga_S) (ik nk : Int) (σ3 : ga_S) (a b : Int) : Int :=
  if σ0 fT_kinds 0 a = 52 then (if saV σ0 nk a = true then 1000000 else cd σ0 (a + 1) 4)
  else if σ0 fT_kinds 0 a = 53 then teCd σ0 ik nk true σ3 (a + 1) b
  else if σ0 fT_kinds 0 a = 54 then min (min (thC σ0 ik nk (σ3 fR_placeFrom 0 0) (σ3 fR_placeTo 0 0)) (thC σ0 ik nk (σ3 fR_thingFrom 0 0) (σ3 fR_thingTo 0 0))) (mvC σ0 ik nk σ3)
  else if σ0 fT_kinds 0 a = 55 ∨ σ0 fT_kinds 0 a = 56 then min (thC σ0 ik nk (σ3 fR_thingFrom 0 0) (σ3 fR_thingTo 0 0)) (if tePr σ0 ik nk σ3 true = true then 1000000 else cd σ0 (σ3 fR_propertyFrom 0 0) 2)
  else if σ0 fT_kinds 0 a = 57 then 1000000 else tyC σ0 ik nk σ3
/-- the step that a phrase leaves -/
def phRw (σ0 : ga_S) (ik nk : Int) (σ3 : ga_S) (a b s : Int) (σ : ga_S) : Prop :=
  (σ0 fT_kinds 0 a = 52 ∧ σ fS_what s 0 = 8 ∧ σ fS_value s 0 = saP σ0 a ∧ σ fS_length s 0 = σ0 fT_lengths 0 (a + 1) - 2) ∨
  (σ0 fT_kinds 0 a = 53 ∧ teRow σ0 ik nk σ3 (a + 1) b s σ ∧ σ3 fR_form 0 0 ≠ 1 ∧ σ3 fR_form 0 0 ≠ 3) ∨
  (σ0 fT_kinds 0 a = 54 ∧ σ fS_what s 0 = 9 ∧ σ fS_thing s 0 = pmV σ0 ik nk σ3 ∧ σ fS_other s 0 = teV σ0 ik nk σ3) ∨
  ((σ0 fT_kinds 0 a = 55 ∧ σ fS_what s 0 = 10 ∨ σ0 fT_kinds 0 a = 56 ∧ σ fS_what s 0 = 11) ∧ σ fS_thing s 0 = teV σ0 ik nk σ3 ∧ σ fS_which s 0 = (if tePr σ0 ik nk σ3 true = true then tePn σ0 σ3 else -1) ∧ σ fS_value s 0 = nuT σ0 (σ3 fR_behindFrom 0 0)) ∨
  (σ0 fT_kinds 0 a = 57 ∧ σ fS_what s 0 = 13) ∨
  (σ0 fT_kinds 0 a = 58 ∧ σ fS_what s 0 = 12 ∧ ((σ3 fR_thingFrom 0 0 = -1 ∧ (acN σ0 false (σ3 fR_propertyFrom 0 0) (σ3 fR_propertyTo 0 0) = 1 → ac1 σ0 false (σ3 fR_propertyFrom 0 0) (σ3 fR_propertyTo 0 0) (σ fS_which s 0) (σ fS_thing s 0))) ∨ (σ3 fR_thingFrom 0 0 ≠ -1 ∧ σ fS_which s 0 = tyX σ0 σ3 ∧ σ fS_thing s 0 = teV σ0 ik nk σ3)))
def phcL : List Nat := tsC ++ stL ++ inL ++ [fD_size, fD_spelled, fR_foundAdjective, fR_foundValue, fR_foundProperty, fR_fault, fR_where, fR_rank, fR_actionFound, fR_objectFound]
section
variable {σ0 τ0 : ga_S} {f : Int} {N : Nat}
theorem k_trying {σ : ga_S} (E : E0 σ0 τ0 f N) (K : KC σ0 σ) {c : Int} (hF : FT σ c) {ik nk s : Int} {σ3 : ga_S} (g3 : σ fR_thingFrom 0 0 = σ3 fR_thingFrom 0 0 ∧ σ fR_thingTo 0 0 = σ3 fR_thingTo 0 0 ∧ σ fR_propertyFrom 0 0 = σ3 fR_propertyFrom 0 0 ∧ σ fR_propertyTo 0 0 = σ3 fR_propertyTo 0 0) (hI : σ fR_itKind 0 0 = ik) (hn : σ fR_nounKind 0 0 = nk) (hs : 0 ≤ s) (hD : inD σ0 s) (hB : frB σ0 N (σ3 fR_propertyFrom 0 0) (σ3 fR_propertyTo 0 0)) (hab : σ3 fR_propertyFrom 0 0 < σ3 fR_propertyTo 0 0) (hS : σ3 fR_thingFrom 0 0 = -1 ∨ (σ3 fR_thingFrom 0 0 ≠ -1 ∧ thS σ0 N (σ3 fR_thingFrom 0 0) (σ3 fR_thingTo 0 0))) {d : Nat} (hd : 7 ≤ d) : ∃ σ', c_r_trying d σ s = some (0, σ') ∧ fr (fS_which :: fS_thing :: fR_actionFound :: fR_objectFound :: ndL) σ σ' ∧ KC σ0 σ' ∧ sKp s σ σ' ∧ FT σ' (min c (tyC σ0 ik nk σ3)) ∧ ((σ3 fR_thingFrom 0 0 = -1 ∧ (acN σ0 false (σ3 fR_propertyFrom 0 0) (σ3 fR_propertyTo 0 0) = 1 → ac1 σ0 false (σ3 fR_propertyFrom 0 0) (σ3 fR_propertyTo 0 0) (σ' fS_which s 0) (σ' fS_thing s 0))) ∨ (σ3 fR_thingFrom 0 0 ≠ -1 ∧ σ' fS_which s 0 = tyX σ0 σ3 ∧ σ' fS_thing s 0 = teV σ0 ik nk σ3)) := by
  obtain ⟨d, rfl⟩ : ∃ e, d = e + 1 := ⟨d - 1, by omega⟩
  have hN := E.1.2.2.1
  have le := FT_le hF
  have tt := frB_t hB
  unfold tyC
  obtain ⟨pf, epf⟩ : ∃ x, x = σ3 fR_propertyFrom 0 0 := ⟨_, rfl⟩
  obtain ⟨pt, ept⟩ : ∃ x, x = σ3 fR_propertyTo 0 0 := ⟨_, rfl⟩
  have eX : dN σ0 (nmT σ0 pf pt) 8 = tyX σ0 σ3 := by rw [epf, ept]; rfl
  rw [← epf, ← ept] at g3 hB hab
  rw [← epf] at tt
  rw [e_r_trying, g3.1, ← epf, ← ept]
  by_cases z : σ3 fR_thingFrom 0 0 = -1
  · obtain ⟨σ1, a1, a2, a3, a4⟩ := k_acting E K false hB hab (d := d) (by omega)
    have a1' : c_r_acting d σ pf pt 0 = some (acN σ0 false pf pt, σ1) := a1
    rw [if_pos z, if_pos z, g3.2.2.1, g3.2.2.2, a1']
    simp only [Option.bind_some]
    rw [nn_ok _ hs, nn_ok _ hs]
    obtain ⟨σ2, e2⟩ : ∃ x, x = ga_up (ga_up σ1 fS_which s 0 (σ1 fR_actionFound 0 0)) fS_thing s 0 (σ1 fR_objectFound 0 0) := ⟨_, rfl⟩
    have f2 : fr [fS_which, fS_thing] σ1 σ2 := by rw [e2]; exact fr_trans (fr_u (by decide)) (fr_u (by decide))
    have s2 : sKp s σ1 σ2 := by rw [e2]; exact sKp_t (sKp_u _ _ _ _ _) (sKp_u _ _ _ _ _)
    have K2 := KC_s a2 f2 (by decide) s2 hD
    have F2 := FT_f (FT_f hF a3 (by decide)) f2 (by decide)
    have fr2 : fr (fS_which :: fS_thing :: fR_actionFound :: fR_objectFound :: ndL) σ σ2 := fr_trans (fr_sub a3 (by decide)) (fr_sub f2 (by decide))
    have sk2 : sKp s σ σ2 := sKp_t (sKp_f a3 (by decide)) s2
    have rw2 : acN σ0 false pf pt = 1 → ac1 σ0 false pf pt (σ2 fS_which s 0) (σ2 fS_thing s 0) := by
      intro y
      have := a4 y
      rw [e2, up_F (by decide), up_eq, up_eq]
      exact this
    have pf2 : σ2 fR_propertyFrom 0 0 = pf := by rw [f2 _ (by decide), a3 _ (by decide)]; exact g3.2.2.1
    rw [← e2]
    unfold cnC
    by_cases y1 : acN σ0 false pf pt = 1
    · rw [if_pos y1, if_pos y1, Int.min_eq_left le]
      exact ⟨σ2, rfl, fr2, K2, sk2, F2, Or.inl ⟨z, rw2⟩⟩
    · rw [if_neg y1, if_neg y1]
      by_cases y0 : acN σ0 false pf pt = 0
      · obtain ⟨σ4, g1, g2, g4⟩ := k_note E.2.1 hN K2 F2 (t := pf) (r := 2) (why := 4) tt (by omega) (by decide) (d := d) (by omega)
        rw [if_pos y0, if_pos y0, e_r_trying_117, pf2, g1]
        exact ⟨σ4, rfl, fr_trans fr2 (fr_sub g2 (by decide)), KC_f K2 g2 (by decide), sKp_t sk2 (sKp_f g2 (by decide)), g4, Or.inl ⟨z, fun v => absurd v y1⟩⟩
      · obtain ⟨σ4, g1, g2, g4⟩ := k_note E.2.1 hN K2 F2 (t := pf) (r := 3) (why := 7) tt (by omega) (by decide) (d := d) (by omega)
        rw [if_neg y0, if_neg y0, e_r_trying_117, pf2, g1]
        exact ⟨σ4, rfl, fr_trans fr2 (fr_sub g2 (by decide)), KC_f K2 g2 (by decide), sKp_t sk2 (sKp_f g2 (by decide)), g4, Or.inl ⟨z, fun v => absurd v y1⟩⟩
  · have S := (hS.resolve_left z).2
    obtain ⟨σ1, a1, a2, a3, a4⟩ := k_need E K hF hB (d := d) (by omega) 8
    rw [eX] at a1 a4
    obtain ⟨X, eX2⟩ : ∃ x, x = tyX σ0 σ3 := ⟨_, rfl⟩
    have xr := e0_dN E (nmT σ0 pf pt) 8
    have m8 : mxN σ0 8 = σ0 fW_actions 0 0 := rfl
    have wc := (e0_c E).2.1
    rw [eX, ← eX2] at xr
    rw [← eX2] at a1 a4 ⊢
    -- the second half
    have half : ∀ (σ4 : ga_S) (c4 : Int), fr ndL σ σ4 → KC σ0 σ4 → FT σ4 c4 → ∃ σ', r_trying_49 d σ4 s X = some (0, σ') ∧ fr (fS_which :: fS_thing :: fR_actionFound :: fR_objectFound :: ndL) σ σ' ∧ KC σ0 σ' ∧ sKp s σ σ' ∧ FT σ' (min c4 (thC σ0 ik nk (σ3 fR_thingFrom 0 0) (σ3 fR_thingTo 0 0))) ∧ (σ' fS_which s 0 = X ∧ σ' fS_thing s 0 = teV σ0 ik nk σ3) := by
      intro σ4 c4 f4 K4 F4
      obtain ⟨σ5, e5⟩ : ∃ x, x = ga_up σ4 fS_which s 0 X := ⟨_, rfl⟩
      have f5 : fr [fS_which] σ4 σ5 := by rw [e5]; exact fr_u (by decide)
      have s5 : sKp s σ4 σ5 := by rw [e5]; exact sKp_u _ _ _ _ _
      have K5 := KC_s K4 f5 (by decide) s5 hD
      obtain ⟨σ6, b1, b2, b3, b4⟩ := k_thingOf E K5 (FT_f F4 f5 (by decide)) S (ik := ik) (nk := nk) (by rw [f5 _ (by decide), f4 _ (by decide)]; exact hI) (by rw [f5 _ (by decide), f4 _ (by decide)]; exact hn) (d := d) (by omega)
      obtain ⟨σ7, e7⟩ : ∃ x, x = ga_up σ6 fS_thing s 0 (thV σ0 ik nk (σ3 fR_thingFrom 0 0) (σ3 fR_thingTo 0 0)) := ⟨_, rfl⟩
      have f7 : fr [fS_thing] σ6 σ7 := by rw [e7]; exact fr_u (by decide)
      have s7 : sKp s σ6 σ7 := by rw [e7]; exact sKp_u _ _ _ _ _
      refine ⟨σ7, ?_, fr_trans (fr_sub f4 (by decide)) (fr_trans (fr_sub f5 (by decide)) (fr_trans (fr_sub b2 (by decide)) (fr_sub f7 (by decide)))), KC_s b3 f7 (by decide) s7 hD, sKp_t (sKp_f f4 (by decide)) (sKp_t s5 (sKp_t (sKp_f b2 (by decide)) s7)), FT_f b4 f7 (by decide), ?_, ?_⟩
      · rw [e_r_trying_49, nn_ok _ hs, ← e5, f4 fR_thingFrom (by decide), f4 fR_thingTo (by decide), g3.1, g3.2.1, b1]
        simp only [Option.bind_some]
        rw [nn_ok _ hs, ← e7]
      · rw [f7 _ (by decide), b2 _ (by decide), e5, up_eq]
      · rw [e7, up_eq]; rfl
    have cr := cd_r E.2.1 tt (r := 2) (by omega)
    rw [if_neg z, if_neg z, g3.2.2.1, g3.2.2.2, a1]
    simp only [Option.bind_some]
    by_cases x1 : X = -1
    · rw [if_pos x1] at a4
      obtain ⟨σ', h1, h2, h3, h4, h5, h6⟩ := half σ1 _ a2 a3 a4
      rw [if_pos x1, if_pos (Or.inl x1), h1, ← Int.min_assoc]
      exact ⟨σ', rfl, h2, h3, h4, h5, Or.inr ⟨z, h6⟩⟩
    · rw [if_neg x1, Int.min_eq_left le] at a4
      rw [if_neg x1, ck_ok _ (by omega), a3.1 fW_actionKinds (by decide)]
      by_cases x2 : σ0 fW_actionKinds 0 X < 0
      · obtain ⟨σ4, b1, b2, b3⟩ := k_note E.2.1 hN a3 a4 (t := pf) (r := 2) (why := 4) tt (by omega) (by decide) (d := d) (by omega)
        obtain ⟨σ', h1, h2, h3, h4, h5, h6⟩ := half σ4 _ (fr_trans a2 (fr_sub b2 (by decide))) (KC_f a3 b2 (by decide)) b3
        rw [if_pos x2, if_pos (Or.inr x2), a2 fR_propertyFrom (by decide), g3.2.2.1, b1]
        simp only [Option.bind_some]
        rw [h1, ← Int.min_assoc]
        exact ⟨σ', rfl, h2, h3, h4, h5, Or.inr ⟨z, h6⟩⟩
      · obtain ⟨σ', h1, h2, h3, h4, h5, h6⟩ := half σ1 _ a2 a3 a4
        rw [if_neg x2, if_neg (fun v => v.elim x1 x2), h1, ← Int.min_assoc, Int.min_eq_left le]
        exact ⟨σ', rfl, h2, h3, h4, h5, Or.inr ⟨z, h6⟩⟩
end

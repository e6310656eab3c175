/-! a test, component -/
def teV (σ0 : ga_S) (ik nk : Int) (σ3 : ga_S) : Int := thV σ0 ik nk (σ3 fR_thingFrom 0 0) (σ3 fR_thingTo 0 0)
def tePr (σ0 : ga_S) (ik nk : Int) (σ3 : ga_S) (num : Bool) : Bool := prB σ0 ik nk (σ3 fR_propertyFrom 0 0) (σ3 fR_propertyTo 0 0) (teV σ0 ik nk σ3) num
def tePn (σ0 σ3 : ga_S) : Int := prN σ0 (σ3 fR_propertyFrom 0 0) (σ3 fR_propertyTo 0 0)
def teNm (σ0 σ3 : ga_S) (b : Int) : List Int := nmT σ0 (σ3 fR_behindFrom 0 0) b
def teNt (σ3 : ga_S) : Bool := decide (σ3 fR_isNot 0 0 = 1)
/-- the code of what stands behind the thing -/
def teC2 (σ0 : ga_S) (ik nk : Int) (now : Bool) (σ3 : ga_S) (b : Int) : Int :=
  if σ3 fR_form 0 0 = 1 then thC σ0 ik nk (σ3 fR_placeFrom 0 0) (σ3 fR_placeTo 0 0)
  else if σ3 fR_form 0 0 = 0 then (if teV σ0 ik nk σ3 = -1 then 1000000 else cnC σ0 (σ3 fR_behindFrom 0 0) (aC σ0 (teNm σ0 σ3 b) (kdT σ0 ik nk (teV σ0 ik nk σ3)) (teNt σ3) (!now)))
  else if σ3 fR_form 0 0 = 3 then (if tePr σ0 ik nk σ3 true = true then 1000000 else cd σ0 (σ3 fR_propertyFrom 0 0) 2)
  else (if tePr σ0 ik nk σ3 false = true then (if vlB σ0 (σ0 fW_propertyTypes 0 (tePn σ0 σ3)) (σ3 fR_behindFrom 0 0) b = true then 1000000 else cd σ0 (σ3 fR_behindFrom 0 0) 2) else cd σ0 (σ3 fR_propertyFrom 0 0) 2)
/-- the code of a test -/
def teCd (σ0 : ga_S) (ik nk : Int) (now : Bool) (σ3 : ga_S) (a b : Int) : Int :=
  if σ3 fR_form 0 0 = 4 then cnC σ0 a ((syL σ0 ik nk a b (a + 1)).length : Int)
  else min (thC σ0 ik nk (σ3 fR_thingFrom 0 0) (σ3 fR_thingTo 0 0)) (teC2 σ0 ik nk now σ3 b)
/-- the step that a test leaves -/
def teRow (σ0 : ga_S) (ik nk : Int) (σ3 : ga_S) (a b s : Int) (σ : ga_S) : Prop :=
  (σ3 fR_form 0 0 = 4 ∧ σ fS_not s 0 = 0 ∧ ∀ i0, syL σ0 ik nk a b (a + 1) = [i0] → syRow σ0 ik nk a b s σ i0) ∨
  (σ fS_not s 0 = σ3 fR_isNot 0 0 ∧ σ fS_thing s 0 = teV σ0 ik nk σ3 ∧
   ((σ3 fR_form 0 0 = 1 ∧ σ fS_what s 0 = 2 ∧ σ fS_which s 0 = σ3 fR_placeSort 0 0 ∧ σ fS_other s 0 = thV σ0 ik nk (σ3 fR_placeFrom 0 0) (σ3 fR_placeTo 0 0)) ∨
    (σ3 fR_form 0 0 = 0 ∧ (teV σ0 ik nk σ3 ≠ -1 → σ fS_what s 0 = (if dN σ0 (teNm σ0 σ3 b) 3 = -1 then 1 else 0) ∧ σ fS_which s 0 = (if dN σ0 (teNm σ0 σ3 b) 3 = -1 then aP σ0 (teNm σ0 σ3 b) (kdT σ0 ik nk (teV σ0 ik nk σ3)) (teNt σ3) else dN σ0 (teNm σ0 σ3 b) 3) ∧ σ fS_value s 0 = fvN σ0 (teNm σ0 σ3 b) (teNt σ3))) ∨
    (σ3 fR_form 0 0 = 3 ∧ σ fS_which s 0 = (if tePr σ0 ik nk σ3 true = true then tePn σ0 σ3 else -1) ∧ σ fS_what s 0 = (if σ0 fT_kinds 0 (σ3 fR_behindFrom 0 0) = 60 then 5 else 6) ∧ σ fS_value s 0 = nuT σ0 (b - 1)) ∨
    (σ3 fR_form 0 0 = 2 ∧ σ fS_which s 0 = (if tePr σ0 ik nk σ3 false = true then tePn σ0 σ3 else -1) ∧ (tePr σ0 ik nk σ3 false = true → vlRow σ0 (σ3 fR_behindFrom 0 0) b s σ))))
def tstL : List Nat := tsC ++ stL ++ [fD_size, fD_spelled, fR_foundAdjective, fR_foundValue, fR_foundProperty, fR_fault, fR_where, fR_rank]
section
variable {σ0 τ0 : ga_S} {f : Int} {N : Nat}
/-- what the rows say, in terms of the check's own store -/
theorem tRw_0 (E : E0 σ0 τ0 f N) {σ3 : ga_S} {a b j : Int} (T : tRw σ3 τ0 f a b j) (kk : σ3 fT_kinds 0 = σ0 fT_kinds 0) (ha : 0 ≤ a) (hb : b ≤ N) (h4 : ¬ σ3 fR_form 0 0 = 4) :
    thE σ0 τ0 f (σ3 fR_thingFrom 0 0) (σ3 fR_thingTo 0 0) (τ0 fM_tThing 0 j) (τ0 fM_tThingRun 0 j) ∧ thS σ0 N (σ3 fR_thingFrom 0 0) (σ3 fR_thingTo 0 0) ∧ (a ≤ σ3 fR_thingFrom 0 0 ∧ σ3 fR_thingTo 0 0 ≤ b) ∧
    (σ3 fR_form 0 0 = 1 → thE σ0 τ0 f (σ3 fR_placeFrom 0 0) (σ3 fR_placeTo 0 0) (τ0 fM_tOther 0 j) (τ0 fM_tOtherRun 0 j) ∧ thS σ0 N (σ3 fR_placeFrom 0 0) (σ3 fR_placeTo 0 0) ∧ τ0 fM_tForm 0 j = 4 ∧ τ0 fM_tWay 0 j = σ3 fR_placeSort 0 0 ∧ a ≤ σ3 fR_placeFrom 0 0) ∧
    (σ3 fR_form 0 0 = 0 → rnR σ0 τ0 f (τ0 fM_tRun 0 j) (σ3 fR_behindFrom 0 0) b ∧ frB σ0 N (σ3 fR_behindFrom 0 0) b ∧ τ0 fM_tForm 0 j = 3 ∧ a ≤ σ3 fR_behindFrom 0 0) ∧
    (σ3 fR_form 0 0 = 2 ∨ σ3 fR_form 0 0 = 3 → rnR σ0 τ0 f (τ0 fM_tRun 0 j) (σ3 fR_propertyFrom 0 0) (σ3 fR_propertyTo 0 0) ∧ frB σ0 N (σ3 fR_propertyFrom 0 0) (σ3 fR_propertyTo 0 0) ∧ a ≤ σ3 fR_propertyFrom 0 0) ∧
    (σ3 fR_form 0 0 = 2 → τ0 fM_tForm 0 j = 0 ∧ τ0 fM_tWhat 0 j = f + σ3 fR_behindFrom 0 0 ∧ (0 ≤ σ3 fR_behindFrom 0 0 ∧ σ3 fR_behindFrom 0 0 < b) ∧ a ≤ σ3 fR_behindFrom 0 0 ∧ σ3 fR_thingTo 0 0 ≤ σ3 fR_behindFrom 0 0 ∧ (((σ0 fT_kinds 0 (σ3 fR_behindFrom 0 0) = 1 ∨ σ0 fT_kinds 0 (σ3 fR_behindFrom 0 0) = 2) ∧ b = σ3 fR_behindFrom 0 0 + 1) ∨ rnR σ0 τ0 f (τ0 fM_tOtherRun 0 j) (σ3 fR_behindFrom 0 0) b)) ∧
    (σ3 fR_form 0 0 = 3 → ((σ0 fT_kinds 0 (σ3 fR_behindFrom 0 0) = 60 ∧ τ0 fM_tForm 0 j = 1) ∨ (σ0 fT_kinds 0 (σ3 fR_behindFrom 0 0) = 61 ∧ τ0 fM_tForm 0 j = 2)) ∧ τ0 fM_tWhat 0 j = f + (b - 1) ∧ σ0 fT_kinds 0 (b - 1) = 1 ∧ 0 ≤ σ3 fR_behindFrom 0 0 ∧ σ3 fR_behindFrom 0 0 < b) ∧
    (σ3 fR_form 0 0 = 0 ∨ σ3 fR_form 0 0 = 1 ∨ σ3 fR_form 0 0 = 2 ∨ σ3 fR_form 0 0 = 3) ∧ τ0 fM_tNot 0 j = σ3 fR_isNot 0 0 := by
  obtain ⟨T0, ⟨nB, TB⟩, _⟩ := T
  obtain ⟨B1, B2, B3, B4, B5⟩ := TB.resolve_left h4
  obtain ⟨n1, t1, F⟩ := T0.resolve_left (fun z => h4 z.1)
  have t1' := thE_k t1 kk
  refine ⟨t1', thE_S t1' (by omega) (by omega), B1, fun y => ?_, fun y => ?_, fun y => ?_, fun y => ?_, fun y => ?_, ?_, n1⟩
  · rcases F with F | F | F | F
    · omega
    · have g := thE_k F.2.2.2 kk
      have b3 := B3 y
      exact ⟨g, thE_S g (by omega) (by omega), F.2.1, F.2.2.1, b3.1⟩
    · omega
    · omega
  · rcases F with F | F | F | F
    · have g := rnR_k F.2.2 kk
      exact ⟨g, rnR_B E.1 g, F.2.1, (B2 (Or.inl y)).1⟩
    · omega
    · omega
    · omega
  · rcases F with F | F | F | F
    · omega
    · omega
    · have g := rnR_k F.2.2.1 kk
      exact ⟨g, rnR_B E.1 g, (B4 y).1⟩
    · have g := rnR_k F.2.2.2.1 kk
      exact ⟨g, rnR_B E.1 g, (B4 y).1⟩
  · rcases F with F | F | F | F
    · omega
    · omega
    · have b2 := B2 (Or.inr y)
      refine ⟨F.2.1, F.2.2.2.1, ⟨by omega, b2.2⟩, b2.1, B5 y, ?_⟩
      rcases F.2.2.2.2 with g | g
      · rw [kk] at g; exact Or.inl g
      · exact Or.inr (rnR_k g kk)
    · omega
  · rcases F with F | F | F | F
    · omega
    · omega
    · omega
    · obtain ⟨_, _, g1, _, g2, g3, g4⟩ := F
      rw [kk] at g1 g3
      exact ⟨g1, g2, g3, g4⟩
  · rcases F with F | F | F | F
    · exact Or.inl F.1
    · exact Or.inr (Or.inl F.1)
    · exact Or.inr (Or.inr (Or.inl F.1))
    · exact Or.inr (Or.inr (Or.inr F.1))
theorem b2i_nt {σ3 : ga_S} (h : σ3 fR_isNot 0 0 = 0 ∨ σ3 fR_isNot 0 0 = 1) : σ3 fR_isNot 0 0 = b2i (teNt σ3) := by
  unfold teNt
  rcases h with h | h <;> rw [h] <;> decide
theorem k_test {σ : ga_S} (E : E0 σ0 τ0 f N) (K : KC σ0 σ) {c : Int} (hF : FT σ c) {a b R j ik nk s : Int} {now : Bool} (T : teR (σ0 fT_kinds 0) R τ0 f N a b (b2i now) j) (hR : σ fR_runs 0 0 = R) (hI : σ fR_itKind 0 0 = ik) (hn : σ fR_nounKind 0 0 = nk) (kI : kO σ0 ik) (kN : kO σ0 nk) (hs : 0 ≤ s) (hD : inD σ0 s) {d : Nat} (hd : 9 ≤ d) : ∃ σ3 σ', c_r_test d σ s a b (b2i now) = some (0, σ') ∧ (tRw σ3 τ0 f a b j ∧ (b2i now = 1 → σ3 fR_form 0 0 ≠ 1 ∧ σ3 fR_form 0 0 ≠ 3)) ∧ σ3 fT_kinds 0 = σ0 fT_kinds 0 ∧ fr tstL σ σ' ∧ KC σ0 σ' ∧ sKp s σ σ' ∧ σ' fR_runs 0 0 = R ∧ rKeepC σ σ' ∧ FT σ' (min c (teCd σ0 ik nk now σ3 a b)) ∧ teRow σ0 ik nk σ3 a b s σ' := by
  obtain ⟨d, rfl⟩ : ∃ e, d = e + 1 := ⟨d - 1, by omega⟩
  obtain ⟨⟨ha, hT, hb, _⟩, T⟩ := T
  have hab := hT.1
  have hN := E.1.2.2.1
  obtain ⟨σ1, e1⟩ : ∃ x, x = ga_up σ fR_bad 0 0 (-1) := ⟨_, rfl⟩
  have f1 : fr [fR_bad] σ σ1 := by rw [e1]; exact fr_u (by decide)
  have K1 := KC_f K f1 (by decide)
  obtain ⟨σ3, a1, a2, a3, a4, a5, a67⟩ := T σ1 (K1.2.1 _ (by decide)) (by rw [e1, up_eq]) (by rw [f1 _ (by decide)]; exact hR) d (by omega)
  have K3 := KC_f K1 a2 (by decide)
  have kk3 : σ3 fT_kinds 0 = σ0 fT_kinds 0 := K3.2.1 _ (by decide)
  have a6 := a67.1
  have nB := a6.2.1.1
  have F3 : FT σ3 c := FT_f (FT_f hF f1 (by decide)) a2 (by decide)
  have rk3 : rKeepC σ σ3 := fun i hi => by
    have := a5 i (by rw [f1 _ (by decide)]; exact hi)
    rw [f1 fR_runFrom (by decide), f1 fR_runTo (by decide)] at this
    exact this
  obtain ⟨σ4, e4⟩ : ∃ x, x = ga_up (ga_up σ3 fS_not s 0 (σ3 fR_isNot 0 0)) fS_length s 0 0 := ⟨_, rfl⟩
  have f4 : fr [fS_not, fS_length] σ3 σ4 := by rw [e4]; exact fr_trans (fr_u (by decide)) (fr_u (by decide))
  have s4 : sKp s σ σ4 := by
    refine sKp_t (sKp_f f1 (by decide)) (sKp_t (sKp_f a2 (by decide)) ?_)
    rw [e4]
    exact sKp_t (sKp_u _ _ _ _ _) (sKp_u _ _ _ _ _)
  have s34 : sKp s σ3 σ4 := by rw [e4]; exact sKp_t (sKp_u _ _ _ _ _) (sKp_u _ _ _ _ _)
  have K4 := KC_s K3 f4 (by decide) s34 hD
  have F4 := FT_f F3 f4 (by decide)
  have fr4 : fr tstL σ σ4 := fr_trans (fr_sub f1 (by decide)) (fr_trans (fr_sub a2 (by decide)) (fr_sub f4 (by decide)))
  have fin : ∀ {L : List Nat} {σ'}, fr L σ4 σ' → fR_runs ∉ L ∧ fR_runFrom ∉ L ∧ fR_runTo ∉ L → σ' fR_runs 0 0 = R ∧ rKeepC σ σ' := by
    intro L σ' h hL
    refine ⟨by rw [h _ hL.1, f4 _ (by decide)]; exact a4, fun i hi => ?_⟩
    rw [h _ hL.2.1, h _ hL.2.2, f4 _ (by decide), f4 _ (by decide)]
    exact rk3 i hi
  have iI : ∀ {L : List Nat} {σ'}, fr L σ4 σ' → fR_itKind ∉ L ∧ fR_nounKind ∉ L → σ' fR_itKind 0 0 = ik ∧ σ' fR_nounKind 0 0 = nk := by
    intro L σ' h hL
    rw [h _ hL.1, h _ hL.2, f4 _ (by decide), f4 _ (by decide), a2 _ (by decide), a2 _ (by decide), f1 _ (by decide), f1 _ (by decide)]
    exact ⟨hI, hn⟩
  have hp4 := iI (fr_refl [] σ4) (by decide)
  refine ⟨σ3, ?_⟩
  rw [e_r_test, ← e1, a1]
  simp only [Option.bind_some]
  rw [nn_ok _ hs, z1_ok _ nB, nn_ok _ hs]
  by_cases c4 : σ3 fR_form 0 0 = 4
  · obtain ⟨σ5, e5⟩ : ∃ x, x = ga_up σ4 fS_not s 0 0 := ⟨_, rfl⟩
    have f5 : fr [fS_not] σ4 σ5 := by rw [e5]; exact fr_u (by decide)
    obtain ⟨σ6, g1, g2, g3, g4, g5, g6⟩ := k_saying E (σ := σ5) (a := a) (b := b) ha hab hb hs hD kI kN (KC_s K4 f5 (by decide) (by rw [e5]; exact sKp_u _ _ _ _ _) hD) (FT_f F4 f5 (by decide)) (by rw [f5 _ (by decide)]; exact hp4.1) (by rw [f5 _ (by decide)]; exact hp4.2) (d := d) (by omega)
    have f46 : fr (fS_not :: (ntL ++ syF)) σ4 σ6 := fr_trans (fr_sub f5 (by decide)) (fr_sub g2 (by decide))
    have fi := fin f46 (by decide)
    have ec : teCd σ0 ik nk now σ3 a b = cnC σ0 a ((syL σ0 ik nk a b (a + 1)).length : Int) := by unfold teCd; rw [if_pos c4]
    rw [if_pos c4, nn_ok _ hs, ← e4, ← e5, g1, ec]
    refine ⟨σ6, rfl, a67, kk3, fr_trans fr4 (fr_sub f46 (by decide)), g3, sKp_t s4 (sKp_t (by rw [e5]; exact sKp_u _ _ _ _ _) g4), fi.1, fi.2, g5, Or.inl ⟨c4, ?_, g6⟩⟩
    rw [g2 _ (by decide), e5, up_eq]
  · obtain ⟨t1, t2, t3, t4, t5, t6, t7, t8, t9, t10⟩ := tRw_0 E a6 kk3 ha hb c4
    obtain ⟨σ5, g1, g2, g3, g4⟩ := k_thingOf E K4 F4 t2 hp4.1 hp4.2 (d := d) (by omega)
    have ev : thV σ0 ik nk (σ3 fR_thingFrom 0 0) (σ3 fR_thingTo 0 0) = teV σ0 ik nk σ3 := rfl
    rw [ev] at g1
    have vr : teV σ0 ik nk σ3 = -1 ∨ thO σ0 ik nk (teV σ0 ik nk σ3) := thV_r E ik nk _ _
    obtain ⟨σ6, e6⟩ : ∃ x, x = ga_up σ5 fS_thing s 0 (teV σ0 ik nk σ3) := ⟨_, rfl⟩
    have f6 : fr [fS_thing] σ5 σ6 := by rw [e6]; exact fr_u (by decide)
    have K6 := KC_s g3 f6 (by decide) (by rw [e6]; exact sKp_u _ _ _ _ _ : sKp s σ5 σ6) hD
    have F6 := FT_f g4 f6 (by decide)
    have f46 : fr (fS_thing :: ndL) σ4 σ6 := fr_trans (fr_sub g2 (by decide)) (fr_sub f6 (by decide))
    have s6 : sKp s σ σ6 := sKp_t s4 (sKp_t (sKp_f g2 (by decide)) (by rw [e6]; exact sKp_u _ _ _ _ _))
    have G5 : ∀ G, G ∉ ndL → G ∉ [fS_not, fS_length] → σ5 G = σ3 G := fun G x y => (g2 G x).trans (f4 G y)
    have n6 : σ6 fS_not s 0 = σ3 fR_isNot 0 0 := by rw [f46 _ (by decide), e4, up_F (by decide), up_eq]
    have th6 : σ6 fS_thing s 0 = teV σ0 ik nk σ3 := by rw [e6, up_eq]
    have hp6 := iI f46 (by decide)
    have ec : teCd σ0 ik nk now σ3 a b = min (thC σ0 ik nk (σ3 fR_thingFrom 0 0) (σ3 fR_thingTo 0 0)) (teC2 σ0 ik nk now σ3 b) := by unfold teCd; rw [if_neg c4]
    rw [if_neg c4, ← e4, g1]
    simp only [Option.bind_some]
    rw [nn_ok _ hs, G5 fR_form (by decide) (by decide), ← e6, th6, G5 fR_placeSort (by decide) (by decide), G5 fR_placeFrom (by decide) (by decide), G5 fR_placeTo (by decide) (by decide), G5 fR_behindFrom (by decide) (by decide), ec, ← Int.min_assoc]
    by_cases c1 : σ3 fR_form 0 0 = 1
    · obtain ⟨p1, p2, p3, p4, p5⟩ := t4 c1
      obtain ⟨σ7, e7⟩ : ∃ x, x = ga_up (ga_up σ6 fS_what s 0 2) fS_which s 0 (σ3 fR_placeSort 0 0) := ⟨_, rfl⟩
      have f7 : fr [fS_what, fS_which] σ6 σ7 := by rw [e7]; exact fr_trans (fr_u (by decide)) (fr_u (by decide))
      have hp7 := iI (fr_trans (fr_sub f46 (by decide)) (fr_sub f7 (by decide)) : fr (fS_what :: fS_which :: fS_thing :: ndL) σ4 σ7) (by decide)
      obtain ⟨σ8, q1, q2, q3, q4⟩ := k_thingOf E (KC_s K6 f7 (by decide) (by rw [e7]; exact sKp_t (sKp_u _ _ _ _ _) (sKp_u _ _ _ _ _) : sKp s σ6 σ7) hD) (FT_f F6 f7 (by decide)) p2 hp7.1 hp7.2 (d := d) (by omega)
      obtain ⟨σ9, e9⟩ : ∃ x, x = ga_up σ8 fS_other s 0 (thV σ0 ik nk (σ3 fR_placeFrom 0 0) (σ3 fR_placeTo 0 0)) := ⟨_, rfl⟩
      have f9 : fr [fS_other] σ8 σ9 := by rw [e9]; exact fr_u (by decide)
      have f49 : fr (fS_other :: fS_what :: fS_which :: fS_thing :: ndL) σ4 σ9 := fr_trans (fr_sub f46 (by decide)) (fr_trans (fr_sub f7 (by decide)) (fr_trans (fr_sub q2 (by decide)) (fr_sub f9 (by decide))))
      have fi := fin f49 (by decide)
      have ec2 : teC2 σ0 ik nk now σ3 b = thC σ0 ik nk (σ3 fR_placeFrom 0 0) (σ3 fR_placeTo 0 0) := by unfold teC2; rw [if_pos c1]
      rw [if_pos c1, nn_ok _ hs, nn_ok _ hs, ← e7, q1]
      simp only [Option.bind_some]
      rw [nn_ok _ hs, ← e9, ec2]
      refine ⟨σ9, rfl, a67, kk3, fr_trans fr4 (fr_sub f49 (by decide)), KC_s q3 f9 (by decide) (by rw [e9]; exact sKp_u _ _ _ _ _ : sKp s σ8 σ9) hD, sKp_t s6 (sKp_t (by rw [e7]; exact sKp_t (sKp_u _ _ _ _ _) (sKp_u _ _ _ _ _)) (sKp_t (sKp_f q2 (by decide)) (by rw [e9]; exact sKp_u _ _ _ _ _))), fi.1, fi.2, FT_f q4 f9 (by decide), Or.inr ⟨?_, ?_, Or.inl ⟨c1, ?_, ?_, ?_⟩⟩⟩
      · rw [f9 _ (by decide), q2 _ (by decide), f7 _ (by decide)]; exact n6
      · rw [f9 _ (by decide), q2 _ (by decide), f7 _ (by decide)]; exact th6
      · rw [f9 _ (by decide), q2 _ (by decide), e7, up_F (by decide), up_eq]
      · rw [f9 _ (by decide), q2 _ (by decide), e7, up_eq]
      · rw [e9, up_eq]
    · rw [if_neg c1]
      by_cases c0 : σ3 fR_form 0 0 = 0
      · obtain ⟨p1, p2, p3, p4⟩ := t5 c0
        rw [if_pos c0, nn_ok _ hs]
        by_cases cv : teV σ0 ik nk σ3 = -1
        · have ec2 : teC2 σ0 ik nk now σ3 b = 1000000 := by unfold teC2; rw [if_neg c1, if_pos c0, if_pos cv]
          have fi := fin f46 (by decide)
          rw [if_pos cv, ec2, Int.min_eq_left (FT_le g4)]
          exact ⟨σ6, rfl, a67, kk3, fr_trans fr4 (fr_sub f46 (by decide)), K6, s6, fi.1, fi.2, F6, Or.inr ⟨n6, th6, Or.inr (Or.inl ⟨c0, fun z => absurd cv z⟩)⟩⟩
        · have tv := vr.resolve_left cv
          have kr := kdT_r E kI kN tv
          obtain ⟨nm, enm⟩ : ∃ x, x = teNm σ0 σ3 b := ⟨_, rfl⟩
          obtain ⟨kd, ekd⟩ : ∃ x, x = kdT σ0 ik nk (teV σ0 ik nk σ3) := ⟨_, rfl⟩
          obtain ⟨σ7, q1, q2, q3, q4, q5, q6⟩ := k_adjective E K6 p2 kr (teNt σ3) (!now) (d := d) (by omega)
          rw [← ekd] at q1 q6
          have enm' : nmT σ0 (σ3 fR_behindFrom 0 0) b = nm := enm.symm
          rw [enm'] at q1 q4 q5 q6
          have i6 : σ6 fR_isNot 0 0 = b2i (teNt σ3) := by rw [f6 _ (by decide), G5 fR_isNot (by decide) (by decide)]; exact b2i_nt nB
          have ec2 : teC2 σ0 ik nk now σ3 b = cnC σ0 (σ3 fR_behindFrom 0 0) (aC σ0 nm kd (teNt σ3) (!now)) := by unfold teC2; rw [if_neg c1, if_pos c0, if_neg cv, ← enm, ← ekd]
          have st : ∀ x : Int, x = b2i (!now) → r_test_146 d σ6 s x (σ6 fR_isNot 0 0) kd b (σ3 fR_behindFrom 0 0) = (if aC σ0 nm kd (teNt σ3) (!now) = 1 then r_test_176 d σ7 s else if aC σ0 nm kd (teNt σ3) (!now) = 0 then r_test_169 d σ7 s 4 else r_test_169 d σ7 s 7) := by
            intro x hx
            rw [hx, i6, e_r_test_146, q1]
            rfl
          have f47 : fr (fS_thing :: fR_foundAdjective :: fR_foundValue :: fR_foundProperty :: ndL) σ4 σ7 := fr_trans (fr_sub f46 (by decide)) (fr_sub q2 (by decide))
          have F7 := FT_f F6 q2 (by decide)
          have le := FT_le g4
          -- the note
          obtain ⟨σ8, x1, x2, x3⟩ : ∃ σ8, (if aC σ0 nm kd (teNt σ3) (!now) = 1 then r_test_176 d σ7 s else if aC σ0 nm kd (teNt σ3) (!now) = 0 then r_test_169 d σ7 s 4 else r_test_169 d σ7 s 7) = r_test_176 d σ8 s ∧ fr ntL σ7 σ8 ∧ FT σ8 (min (min c (thC σ0 ik nk (σ3 fR_thingFrom 0 0) (σ3 fR_thingTo 0 0))) (cnC σ0 (σ3 fR_behindFrom 0 0) (aC σ0 nm kd (teNt σ3) (!now)))) := by
            have bf7 : σ7 fR_behindFrom 0 0 = σ3 fR_behindFrom 0 0 := by rw [q2 _ (by decide), f6 _ (by decide), G5 fR_behindFrom (by decide) (by decide)]
            have tt := frB_t p2
            unfold cnC
            by_cases z1 : aC σ0 nm kd (teNt σ3) (!now) = 1
            · rw [if_pos z1, if_pos z1, Int.min_eq_left le]
              exact ⟨σ7, rfl, fr_refl _ _, F7⟩
            · rw [if_neg z1, if_neg z1]
              by_cases z0 : aC σ0 nm kd (teNt σ3) (!now) = 0
              · obtain ⟨σ8, y1, y2, y3⟩ := k_note E.2.1 hN q3 F7 (t := σ3 fR_behindFrom 0 0) (r := 2) (why := 4) tt (by omega) (by decide) (d := d) (by omega)
                rw [if_pos z0, if_pos z0, e_r_test_169, bf7, y1]
                exact ⟨σ8, rfl, y2, y3⟩
              · obtain ⟨σ8, y1, y2, y3⟩ := k_note E.2.1 hN q3 F7 (t := σ3 fR_behindFrom 0 0) (r := 3) (why := 7) tt (by omega) (by decide) (d := d) (by omega)
                rw [if_neg z0, if_neg z0, e_r_test_169, bf7, y1]
                exact ⟨σ8, rfl, y2, y3⟩
          have fA : σ8 fR_foundAdjective 0 0 = dN σ0 nm 3 := by rw [x2 _ (by decide)]; exact q4
          have fV : σ8 fR_foundValue 0 0 = fvN σ0 nm (teNt σ3) := by rw [x2 _ (by decide)]; exact q5
          have fP : σ8 fR_foundProperty 0 0 = aP σ0 nm kd (teNt σ3) := by rw [x2 _ (by decide)]; exact q6
          obtain ⟨σ9, e9⟩ : ∃ x, x = ga_up (ga_up (ga_up σ8 fS_what s 0 (if dN σ0 nm 3 = -1 then 1 else 0)) fS_which s 0 (if dN σ0 nm 3 = -1 then aP σ0 nm kd (teNt σ3) else dN σ0 nm 3)) fS_value s 0 (fvN σ0 nm (teNt σ3)) := ⟨_, rfl⟩
          have f9 : fr [fS_what, fS_which, fS_value] σ8 σ9 := by rw [e9]; exact fr_trans (fr_trans (fr_u (by decide)) (fr_u (by decide))) (fr_u (by decide))
          have y176 : r_test_176 d σ8 s = some (0, σ9) := by
            rw [e_r_test_176, fA, e9]
            by_cases z : dN σ0 nm 3 = -1
            · rw [if_pos z, e_r_test_190, nn_ok _ hs, fA, if_pos z, e_r_test_213, nn_ok _ hs, nn_ok _ hs, up_F (F' := fR_foundValue) (by decide), fV, fP, if_pos z, if_pos z]
            · rw [if_neg z, e_r_test_190, nn_ok _ hs, fA, if_neg z, e_r_test_213, nn_ok _ hs, nn_ok _ hs, up_F (F' := fR_foundValue) (by decide), fV, if_neg z, if_neg z]
          have f49 : fr (fS_what :: fS_which :: fS_value :: fS_thing :: fR_foundAdjective :: fR_foundValue :: fR_foundProperty :: ndL) σ4 σ9 := fr_trans (fr_sub f47 (by decide)) (fr_trans (fr_sub x2 (by decide)) (fr_sub f9 (by decide)))
          have fi := fin f49 (by decide)
          have run : (if b2i now = 0 then r_test_146 d σ6 s 1 (σ6 fR_isNot 0 0) kd b (σ3 fR_behindFrom 0 0) else r_test_146 d σ6 s 0 (σ6 fR_isNot 0 0) kd b (σ3 fR_behindFrom 0 0)) = some (0, σ9) := by
            cases now with
            | false => rw [if_pos b2i_f, st 1 rfl, x1, y176]
            | true => rw [if_neg b2i_n, st 0 rfl, x1, y176]
          rw [if_neg cv, nn_ok _ hs, k_kindOf E K6 hp6.1 hp6.2 tv (by omega), ← ekd]
          simp only [Option.bind_some]
          rw [run, ec2]
          refine ⟨σ9, rfl, a67, kk3, fr_trans fr4 (fr_sub f49 (by decide)), KC_s (KC_f q3 x2 (by decide)) f9 (by decide) (by rw [e9]; exact sKp_t (sKp_t (sKp_u _ _ _ _ _) (sKp_u _ _ _ _ _)) (sKp_u _ _ _ _ _) : sKp s σ8 σ9) hD, sKp_t s6 (sKp_t (sKp_f q2 (by decide)) (sKp_t (sKp_f x2 (by decide)) (by rw [e9]; exact sKp_t (sKp_t (sKp_u _ _ _ _ _) (sKp_u _ _ _ _ _)) (sKp_u _ _ _ _ _)))), fi.1, fi.2, FT_f x3 f9 (by decide), Or.inr ⟨?_, ?_, Or.inr (Or.inl ⟨c0, fun _ => ⟨?_, ?_, ?_⟩⟩)⟩⟩
          · rw [f9 _ (by decide), x2 _ (by decide), q2 _ (by decide)]; exact n6
          · rw [f9 _ (by decide), x2 _ (by decide), q2 _ (by decide)]; exact th6
          · rw [← enm, e9, up_F (by decide), up_F (by decide), up_eq]
          · rw [← enm, ← ekd, e9, up_F (by decide), up_eq]
          · rw [← enm, e9, up_eq]
      · rw [if_neg c0, nn_ok _ hs]
        have e23 : σ3 fR_form 0 0 = 2 ∨ σ3 fR_form 0 0 = 3 := by omega
        obtain ⟨p1, p2, p3⟩ := t6 e23
        have pf6 : σ6 fR_propertyFrom 0 0 = σ3 fR_propertyFrom 0 0 := by rw [f6 _ (by decide), G5 _ (by decide) (by decide)]
        have pt6 : σ6 fR_propertyTo 0 0 = σ3 fR_propertyTo 0 0 := by rw [f6 _ (by decide), G5 _ (by decide) (by decide)]
        have pr := fun num => k_property E K6 F6 (s := s) hp6.1 hp6.2 kI kN vr p2 pf6 pt6 hs hD num (d := d) (by omega)
        by_cases c3 : σ3 fR_form 0 0 = 3
        · obtain ⟨p4, p5, p6, p7, p8⟩ := t8 c3
          obtain ⟨σ7, q1, q2, q3, q4, q5, q6⟩ := pr true
          have fm7 : σ7 fR_form 0 0 = 3 := by rw [q2 _ (by decide), f6 _ (by decide), G5 _ (by decide) (by decide)]; exact c3
          have bf7 : σ7 fR_behindFrom 0 0 = σ3 fR_behindFrom 0 0 := by rw [q2 _ (by decide), f6 _ (by decide), G5 _ (by decide) (by decide)]
          have kk7 : σ7 fT_kinds 0 = σ0 fT_kinds 0 := q3.2.1 _ (by decide)
          obtain ⟨w, ew⟩ : ∃ x : Int, x = if σ0 fT_kinds 0 (σ3 fR_behindFrom 0 0) = 60 then 5 else 6 := ⟨_, rfl⟩
          obtain ⟨σ8, e8⟩ : ∃ x, x = ga_up σ7 fS_what s 0 w := ⟨_, rfl⟩
          have f8 : fr [fS_what] σ7 σ8 := by rw [e8]; exact fr_u (by decide)
          obtain ⟨σ9, e9⟩ : ∃ x, x = ga_up σ8 fS_value s 0 (nuT σ0 (b - 1)) := ⟨_, rfl⟩
          have f9 : fr [fS_value] σ8 σ9 := by rw [e9]; exact fr_u (by decide)
          have y278 : r_test_278 d σ7 s b w s = some (0, σ9) := by
            rw [e_r_test_278, nn_ok _ hs, ← e8, w32_ok (by omega), k_number E (KC_s q3 f8 (by decide) (by rw [e8]; exact sKp_u _ _ _ _ _ : sKp s σ7 σ8) hD) (by omega) p6 (by omega)]
            simp only [Option.bind_some]
            rw [nn_ok _ hs, ← e9]
          have run : r_test_246 d σ6 s b 1 (teV σ0 ik nk σ3) s = some (0, σ9) := by
            have q1' : c_r_property d σ6 s (teV σ0 ik nk σ3) 1 = some (0, σ7) := q1
            rw [e_r_test_246, q1']
            simp only [Option.bind_some]
            rw [if_pos fm7, bf7, s_r_is (by omega) (by omega), kk7]
            simp only [Option.bind_some]
            by_cases z : σ0 fT_kinds 0 (σ3 fR_behindFrom 0 0) = 60
            · rw [if_pos z] at ew
              rw [decide_eq_true z, if_neg b2i_n, ← ew, y278]
            · rw [if_neg z] at ew
              rw [decide_eq_false z, if_pos b2i_f, ← ew, y278]
          have f49 : fr (fS_what :: fS_value :: fS_which :: fS_thing :: ndL) σ4 σ9 := fr_trans (fr_sub f46 (by decide)) (fr_trans (fr_sub q2 (by decide)) (fr_trans (fr_sub f8 (by decide)) (fr_sub f9 (by decide))))
          have fi := fin f49 (by decide)
          have ec2 : teC2 σ0 ik nk now σ3 b = if tePr σ0 ik nk σ3 true = true then 1000000 else cd σ0 (σ3 fR_propertyFrom 0 0) 2 := by unfold teC2; rw [if_neg c1, if_neg c0, if_pos c3]
          rw [if_pos c3, run, ec2]
          refine ⟨σ9, rfl, a67, kk3, fr_trans fr4 (fr_sub f49 (by decide)), KC_s (KC_s q3 f8 (by decide) (by rw [e8]; exact sKp_u _ _ _ _ _ : sKp s σ7 σ8) hD) f9 (by decide) (by rw [e9]; exact sKp_u _ _ _ _ _ : sKp s σ8 σ9) hD, sKp_t s6 (sKp_t q4 (by rw [e9, e8]; exact sKp_t (sKp_u _ _ _ _ _) (sKp_u _ _ _ _ _))), fi.1, fi.2, FT_f (FT_f q5 f8 (by decide)) f9 (by decide), Or.inr ⟨?_, ?_, Or.inr (Or.inr (Or.inl ⟨c3, ?_, ?_, ?_⟩))⟩⟩
          · rw [f9 _ (by decide), f8 _ (by decide), q2 _ (by decide)]; exact n6
          · rw [f9 _ (by decide), f8 _ (by decide), q2 _ (by decide)]; exact th6
          · rw [f9 _ (by decide), f8 _ (by decide)]; exact q6
          · rw [f9 _ (by decide), e8, up_eq]; exact ew
          · rw [e9, up_eq]
        · have c2 : σ3 fR_form 0 0 = 2 := by omega
          obtain ⟨p4, p5, p6, p7, p8, p9⟩ := t7 c2
          obtain ⟨σ7, q1, q2, q3, q4, q5, q6⟩ := pr false
          have fm7 : σ7 fR_form 0 0 = σ3 fR_form 0 0 := by rw [q2 _ (by decide), f6 _ (by decide), G5 _ (by decide) (by decide)]
          have bf7 : σ7 fR_behindFrom 0 0 = σ3 fR_behindFrom 0 0 := by rw [q2 _ (by decide), f6 _ (by decide), G5 _ (by decide) (by decide)]
          have q1' : c_r_property d σ6 s (teV σ0 ik nk σ3) 0 = some (0, σ7) := q1
          have q6' : σ7 fS_which s 0 = if tePr σ0 ik nk σ3 false = true then tePn σ0 σ3 else -1 := q6
          have q5' : FT σ7 (min (min c (thC σ0 ik nk (σ3 fR_thingFrom 0 0) (σ3 fR_thingTo 0 0))) (if tePr σ0 ik nk σ3 false = true then 1000000 else cd σ0 (σ3 fR_propertyFrom 0 0) 2)) := q5
          have f47 : fr (fS_which :: fS_thing :: ndL) σ4 σ7 := fr_trans (fr_sub f46 (by decide)) (fr_sub q2 (by decide))
          rw [if_neg c3, e_r_test_246, q1']
          simp only [Option.bind_some]
          rw [fm7, if_neg c3, nn_ok _ hs, q6']
          by_cases cp : tePr σ0 ik nk σ3 false = true
          · have pn : tePn σ0 σ3 ≠ -1 := by
              unfold tePr prB at cp
              simp only [Bool.and_eq_true] at cp
              exact of_decide_eq_true cp.1.1
            have pr5 := e0_dN E (nmT σ0 (σ3 fR_propertyFrom 0 0) (σ3 fR_propertyTo 0 0)) 5
            have epn : dN σ0 (nmT σ0 (σ3 fR_propertyFrom 0 0) (σ3 fR_propertyTo 0 0)) 5 = tePn σ0 σ3 := rfl
            rw [epn] at pr5
            have m5 : mxN σ0 5 = σ0 fW_properties 0 0 := rfl
            have wp2 := (e0_p E).2.1
            rw [if_pos cp] at q5' q6' ⊢
            have F7 : FT σ7 (min c (thC σ0 ik nk (σ3 fR_thingFrom 0 0) (σ3 fR_thingTo 0 0))) := by
              have := FT_le g4
              rw [Int.min_eq_left this] at q5'
              exact q5'
            obtain ⟨σ8, y1, y2, y3, y4, y5⟩ := k_value E q3 (s := s) (at' := σ3 fR_behindFrom 0 0) (to := b) (σ0 fW_propertyTypes 0 (tePn σ0 σ3)) hs hD (by omega) (by
              rcases p9 with p9 | p9
              · exact Or.inl p9.1
              · exact Or.inr (rnR_B E.1 p9)) (d := d) (by omega)
            have F8 := FT_f F7 y2 (by decide)
            have ec2 : teC2 σ0 ik nk now σ3 b = if vlB σ0 (σ0 fW_propertyTypes 0 (tePn σ0 σ3)) (σ3 fR_behindFrom 0 0) b = true then 1000000 else cd σ0 (σ3 fR_behindFrom 0 0) 2 := by unfold teC2; rw [if_neg c1, if_neg c0, if_neg c3, if_pos cp]
            rw [if_neg pn, nn_ok _ hs, ck_ok _ (by omega), q3.1 fW_propertyTypes (by decide), bf7, y1, ec2]
            simp only [Option.bind_some]
            have f48 : fr (fS_what :: fS_value :: fS_length :: fS_which :: fS_thing :: ndL) σ4 σ8 := fr_trans (fr_sub f47 (by decide)) (fr_sub y2 (by decide))
            have bf8 : σ8 fR_behindFrom 0 0 = σ3 fR_behindFrom 0 0 := by rw [y2 _ (by decide)]; exact bf7
            have row : ∀ σ', fr ntL σ8 σ' → teRow σ0 ik nk σ3 a b s σ' := by
              intro σ' h
              refine Or.inr ⟨?_, ?_, Or.inr (Or.inr (Or.inr ⟨c2, ?_, fun _ => ?_⟩))⟩
              · rw [h _ (by decide), y2 _ (by decide), q2 _ (by decide)]; exact n6
              · rw [h _ (by decide), y2 _ (by decide), q2 _ (by decide)]; exact th6
              · rw [h _ (by decide), y2 _ (by decide), if_pos cp]; exact q6'
              · unfold vlRow at y5 ⊢
                rw [h _ (by decide), h _ (by decide), h _ (by decide)]
                exact y5
            cases hv : vlB σ0 (σ0 fW_propertyTypes 0 (tePn σ0 σ3)) (σ3 fR_behindFrom 0 0) b with
            | true =>
              have fi := fin f48 (by decide)
              rw [if_neg b2i_n, if_pos rfl, Int.min_eq_left (FT_le g4)]
              exact ⟨σ8, rfl, a67, kk3, fr_trans fr4 (fr_sub f48 (by decide)), y3, sKp_t s6 (sKp_t q4 y4), fi.1, fi.2, F8, row σ8 (fr_refl _ _)⟩
            | false =>
              obtain ⟨σ9, x1, x2, x3⟩ := k_note E.2.1 hN y3 F8 (t := σ3 fR_behindFrom 0 0) (r := 2) (why := 4) (by omega) (by omega) (by decide) (d := d) (by omega)
              have f49 : fr (fS_what :: fS_value :: fS_length :: fS_which :: fS_thing :: ndL) σ4 σ9 := fr_trans f48 (fr_sub x2 (by decide))
              have fi := fin f49 (by decide)
              rw [if_pos b2i_f, bf8, x1, if_neg (by decide)]
              exact ⟨σ9, rfl, a67, kk3, fr_trans fr4 (fr_sub f49 (by decide)), KC_f y3 x2 (by decide), sKp_t s6 (sKp_t q4 (sKp_t y4 (sKp_f x2 (by decide)))), fi.1, fi.2, x3, row σ9 x2⟩
          · have fi := fin f47 (by decide)
            have ec2 : teC2 σ0 ik nk now σ3 b = cd σ0 (σ3 fR_propertyFrom 0 0) 2 := by unfold teC2; rw [if_neg c1, if_neg c0, if_neg c3, if_neg cp]
            rw [if_neg cp] at q5' ⊢
            rw [if_pos rfl, ec2]
            refine ⟨σ7, rfl, a67, kk3, fr_trans fr4 (fr_sub f47 (by decide)), q3, sKp_t s6 q4, fi.1, fi.2, q5', Or.inr ⟨?_, ?_, Or.inr (Or.inr (Or.inr ⟨c2, ?_, fun z => absurd z cp⟩))⟩⟩
            · rw [q2 _ (by decide)]; exact n6
            · rw [q2 _ (by decide)]; exact th6
            · rw [if_neg cp]; rw [if_neg cp] at q6'; exact q6'
end

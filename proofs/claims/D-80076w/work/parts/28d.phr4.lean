/-! a phrase that is good: its step and the model's row -/
/-- a phrase that makes something so tells neither a place nor a comparison -/
def nwP (σ : ga_S) (s : Int) : Prop := σ fS_what s 0 ≠ 2 ∧ σ fS_what s 0 ≠ 5 ∧ σ fS_what s 0 ≠ 6
def stP (σ0 : ga_S) (ik nk : Int) (σ τ : ga_S) (s q x : Int) : Prop := τ fM_qTest 0 x = q ∧
  ((τ fM_qPhrase 0 x = 0 ∧ σ fS_what s 0 = 8 ∧ τ fM_qWhat 0 q = σ fS_value s 0 ∧ τ fM_qLong 0 q = σ fS_length s 0 ∧ (0 ≤ σ fS_length s 0 ∧ σ fS_length s 0 ≤ 120) ∧ (0 ≤ σ fS_value s 0 ∧ σ fS_value s 0 + σ fS_length s 0 ≤ σ0 fT_size 0 0) ∧ txB (σ0 fT_bytes 0) (σ fS_value s 0) (σ fS_value s 0 + σ fS_length s 0) ∧ sdV σ0 (σ0 fT_bytes 0) nk (σ fS_value s 0 + σ fS_length s 0) (σ fS_length s 0).toNat (σ fS_value s 0) = true) ∨
   (τ fM_qPhrase 0 x = 1 ∧ stT σ0 ik nk true σ τ s q ∧ nwP σ s) ∨
   (τ fM_qPhrase 0 x = 2 ∧ σ fS_what s 0 = 9 ∧ τ fM_qThing 0 q = mT (σ fS_thing s 0) ∧ thO σ0 ik nk (σ fS_thing s 0) ∧ isB (σ0 fW_parents 0) (kdT σ0 ik nk (σ fS_thing s 0)) 0 = true ∧ τ fM_qOther 0 q = mT (σ fS_other s 0) ∧ thO σ0 ik nk (σ fS_other s 0)) ∨
   ((τ fM_qPhrase 0 x = 3 ∧ σ fS_what s 0 = 10 ∨ τ fM_qPhrase 0 x = 4 ∧ σ fS_what s 0 = 11) ∧ τ fM_qThing 0 q = mT (σ fS_thing s 0) ∧ thO σ0 ik nk (σ fS_thing s 0) ∧ τ fM_qProperty 0 q = σ fS_which s 0 ∧ (0 ≤ σ fS_which s 0 ∧ σ fS_which s 0 < σ0 fW_properties 0 0) ∧ own σ0 (kdT σ0 ik nk (σ fS_thing s 0)) (σ fS_which s 0) = true ∧ σ0 fW_propertyTypes 0 (σ fS_which s 0) = 0 ∧ τ fM_qWhat 0 q = σ fS_value s 0 ∧ 0 ≤ σ fS_value s 0 ∧ σ fS_value s 0 < 1000000) ∨
   (τ fM_qPhrase 0 x = 6 ∧ σ fS_what s 0 = 13) ∨
   (τ fM_qPhrase 0 x = 5 ∧ σ fS_what s 0 = 12 ∧ τ fM_qProperty 0 q = σ fS_which s 0 ∧ (0 ≤ σ fS_which s 0 ∧ σ fS_which s 0 < σ0 fW_actions 0 0) ∧ ((σ fS_thing s 0 = -1 ∧ τ fM_qThing 0 q = -1 ∧ τ fM_qNot 0 q = 1 ∧ σ0 fW_actionKinds 0 (σ fS_which s 0) = -1) ∨ (thO σ0 ik nk (σ fS_thing s 0) ∧ τ fM_qThing 0 q = mT (σ fS_thing s 0) ∧ τ fM_qNot 0 q = 0 ∧ 0 ≤ σ0 fW_actionKinds 0 (σ fS_which s 0)))))
theorem stP_keep {σ0 : ga_S} {ik nk : Int} {σ σ' τ τ' : ga_S} {s q x s' q' x' : Int} (h : stP σ0 ik nk σ τ s q x) (h1 : sKp s' σ σ') (h2 : qKp q' τ τ') (h3 : xKp x' τ τ') (hs : s ≠ s') (hq : q ≠ q') (hx : x ≠ x') : stP σ0 ik nk σ' τ' s q x := by
  obtain ⟨h0, h⟩ := h
  refine ⟨by rw [h3 fM_qTest (by decide) x hx]; exact h0, ?_⟩
  rw [h3 fM_qPhrase (by decide) x hx]
  have eT : stT σ0 ik nk true σ τ s q → stT σ0 ik nk true σ' τ' s q := fun z => stT_keep z h1 h2 hs hq
  rw [h1 fS_thing (by decide) s hs, h1 fS_what (by decide) s hs, h1 fS_other (by decide) s hs, h1 fS_which (by decide) s hs, h1 fS_value (by decide) s hs, h1 fS_length (by decide) s hs, h2 fM_qNot (by decide) q hq, h2 fM_qThing (by decide) q hq, h2 fM_qOther (by decide) q hq, h2 fM_qProperty (by decide) q hq, h2 fM_qWhat (by decide) q hq, h2 fM_qLong (by decide) q hq]
  have eN : nwP σ s → nwP σ' s := fun z => by unfold nwP at z ⊢; rw [h1 fS_what (by decide) s hs]; exact z
  rcases h with h | h | h | h | h | h
  · exact Or.inl h
  · exact Or.inr (Or.inl ⟨h.1, eT h.2.1, eN h.2.2⟩)
  · exact Or.inr (Or.inr (Or.inl h))
  · exact Or.inr (Or.inr (Or.inr (Or.inl h)))
  · exact Or.inr (Or.inr (Or.inr (Or.inr (Or.inl h))))
  · exact Or.inr (Or.inr (Or.inr (Or.inr (Or.inr h))))
section
variable {σ0 τ0 : ga_S} {f : Int} {N : Nat}
theorem ph_stP (E : E0 σ0 τ0 f N) {σ3 σ τ : ga_S} {a b i j ik nk s q x : Int} (T : pRw σ3 τ0 f a b i j) (kk : σ3 fT_kinds 0 = σ0 fT_kinds 0) (ha : 0 ≤ a) (hab : a < b) (hb : b ≤ N) (hc : 1000000 ≤ phCd σ0 ik nk σ3 a b) (R : phRw σ0 ik nk σ3 a b s σ) (M : phRoM σ0 ik nk σ3 a b q τ) (hx : τ fM_qPhrase 0 x = phW (σ0 fT_kinds 0 a)) (hq : τ fM_qTest 0 x = q) : stP σ0 ik nk σ τ s q x := by
  refine ⟨hq, ?_⟩
  unfold phCd at hc
  obtain ⟨r1, r2, r3⟩ := T
  rw [kk] at r3
  have hN5 := E.1.2.2.1
  rcases R with R | R | R | R | R | R
  · -- say
    obtain ⟨c1, w1, w2, w3⟩ := R
    rw [if_pos c1] at hc
    have c4 := cd_r E.2.1 (t := a + 1) (r := 4) (by omega) (by omega)
    have sv : saV σ0 nk a = true := by
      refine Classical.byContradiction fun z => ?_
      rw [if_neg z] at hc; omega
    have k2 : σ0 fT_kinds 0 (a + 1) = 2 ∧ b = a + 2 := by
      rcases r3 with h | h | h | h | h | h
      · exact h.2.2.2
      all_goals omega
    have tk := E.2.1.2.1 (a + 1) (by omega) (by omega)
    have t2 := E.2.1.2.2.2.2.2 (a + 1) (by omega) (by omega) k2.1
    have m : τ fM_qWhat 0 q = saP σ0 a ∧ τ fM_qLong 0 q = σ0 fT_lengths 0 (a + 1) - 2 := by
      rcases M with h | h | h | h | h | h
      · exact h.2
      all_goals omega
    have p1 : phW (σ0 fT_kinds 0 a) = 0 := by rw [c1]; decide
    have eE : saP σ0 a + (σ0 fT_lengths 0 (a + 1) - 2) = saE σ0 a := rfl
    rw [p1] at hx
    rw [w2, w3, eE]
    refine Or.inl ⟨hx, w1, m.1, m.2, by omega, ⟨by unfold saP; omega, by unfold saE; omega⟩, fun y y1 y2 => t2.2.2.2 y (by unfold saP at y1; omega) (by unfold saE at y2; omega), ?_⟩
    have e2 : (σ0 fT_lengths 0 (a + 1) - 2).toNat = (saE σ0 a - saP σ0 a).toNat := by rw [← eE]; congr 1; omega
    rw [e2]
    exact sv
  · -- now
    obtain ⟨c1, w1, o1, o3⟩ := R
    rw [if_neg (by omega), if_pos c1] at hc
    have t : tRw σ3 τ0 f (a + 1) b j := by
      rcases r3 with h | h | h | h | h | h
      · omega
      · exact h.2.2
      all_goals omega
    have m : teRoM σ0 ik nk true σ3 (a + 1) b q τ := by
      rcases M with h | h | h | h | h | h
      · omega
      · exact h.2
      all_goals omega
    have p1 : phW (σ0 fT_kinds 0 a) = 1 := by rw [c1]; decide
    rw [p1] at hx
    have T' := te_stT E t kk (by omega) (by omega) hb hc w1 m
    refine Or.inr (Or.inl ⟨hx, T', ?_⟩)
    have qf : τ fM_qForm 0 q ≠ 4 ∧ τ fM_qForm 0 q ≠ 1 ∧ τ fM_qForm 0 q ≠ 2 := by
      rcases m with ⟨_, m1, _⟩ | ⟨_, _, ⟨m1, _⟩ | ⟨_, m1, _⟩ | ⟨m1, _⟩ | ⟨_, m1, _⟩⟩
      · omega
      · exact absurd m1 o1
      · omega
      · exact absurd m1 o3
      · omega
    obtain ⟨_, _, _, T'⟩ := T'
    unfold nwP
    rcases T' with z | z | z | z | z | z
    · rw [z.2.2.1]; decide
    · exact absurd z.1 qf.1
    · rw [z.2.1]; decide
    · rw [z.2.1]; decide
    · rcases z.1 with y | y
      · exact absurd y.1 qf.2.1
      · exact absurd y.1 qf.2.2
    · rcases z.2.2.2.2.2 with y | y | y
      · rw [y.1]; decide
      · rw [y.1]; decide
      · rw [y.1]; decide
  · -- move
    obtain ⟨c1, w1, w2, w3⟩ := R
    rw [if_neg (by omega), if_neg (by omega), if_pos c1] at hc
    have t : thE σ0 τ0 f (σ3 fR_placeFrom 0 0) (σ3 fR_placeTo 0 0) (τ0 fM_tThing 0 j) (τ0 fM_tThingRun 0 j) ∧ thE σ0 τ0 f (σ3 fR_thingFrom 0 0) (σ3 fR_thingTo 0 0) (τ0 fM_tOther 0 j) (τ0 fM_tOtherRun 0 j) ∧ (a ≤ σ3 fR_placeFrom 0 0 ∧ σ3 fR_placeTo 0 0 ≤ b) ∧ (a ≤ σ3 fR_thingFrom 0 0 ∧ σ3 fR_thingTo 0 0 ≤ b) := by
      rcases r3 with h | h | h | h | h | h
      · omega
      · omega
      · exact ⟨thE_k h.2.2.1 kk, thE_k h.2.2.2.1 kk, h.2.2.2.2⟩
      all_goals omega
    have m : τ fM_qThing 0 q = mT (pmV σ0 ik nk σ3) ∧ τ fM_qOther 0 q = mT (teV σ0 ik nk σ3) := by
      rcases M with h | h | h | h | h | h
      · omega
      · omega
      · exact h.2
      all_goals omega
    have S1 := thE_S (N := N) t.1 (by omega) (by omega)
    have S2 := thE_S (N := N) t.2.1 (by omega) (by omega)
    have o1 : thO σ0 ik nk (pmV σ0 ik nk σ3) := thC_1 E S1 (by omega)
    have o2 : thO σ0 ik nk (teV σ0 ik nk σ3) := thC_1 E S2 (by omega)
    have c2 := cd_r E.2.1 (thW_t S1) (r := 2) (by omega)
    have n1 : pmV σ0 ik nk σ3 ≠ -1 := by
      intro z; rw [z] at o1; unfold thO at o1; omega
    have ib : isB (σ0 fW_parents 0) (kdT σ0 ik nk (pmV σ0 ik nk σ3)) 0 = true := by
      refine Classical.byContradiction fun z => ?_
      have : mvC σ0 ik nk σ3 = cd σ0 (thW σ0 (σ3 fR_placeFrom 0 0) (σ3 fR_placeTo 0 0)) 2 := by unfold mvC; rw [if_neg n1, if_neg z]
      omega
    have p1 : phW (σ0 fT_kinds 0 a) = 2 := by rw [c1]; decide
    rw [p1] at hx
    rw [w2, w3]
    exact Or.inr (Or.inr (Or.inl ⟨hx, w1, m.1, o1, ib, m.2, o2⟩))
  · -- increase, decrease
    obtain ⟨w1, w2, w3, w4⟩ := R
    rw [if_neg (by omega), if_neg (by omega), if_neg (by omega), if_pos (by omega)] at hc
    have t : rnR σ0 τ0 f (τ0 fM_tRun 0 j) (σ3 fR_propertyFrom 0 0) (σ3 fR_propertyTo 0 0) ∧ thE σ0 τ0 f (σ3 fR_thingFrom 0 0) (σ3 fR_thingTo 0 0) (τ0 fM_tThing 0 j) (τ0 fM_tThingRun 0 j) ∧ σ0 fT_kinds 0 (σ3 fR_behindFrom 0 0) = 1 ∧ (a ≤ σ3 fR_thingFrom 0 0 ∧ σ3 fR_thingTo 0 0 ≤ b) ∧ (a ≤ σ3 fR_behindFrom 0 0 ∧ σ3 fR_behindFrom 0 0 < b) := by
      rcases r3 with h | h | h | h | h | h
      · omega
      · omega
      · omega
      · obtain ⟨_, h2, h3, h4, h5, h6, h7, h8⟩ := h
        exact ⟨rnR_k h2 kk, thE_k h3 kk, h5, h7, h8⟩
      all_goals omega
    have m : τ fM_qThing 0 q = mT (teV σ0 ik nk σ3) ∧ τ fM_qProperty 0 q = (if teV σ0 ik nk σ3 ≠ -1 ∧ tePr σ0 ik nk σ3 false = true then tePn σ0 σ3 else -1) ∧ τ fM_qWhat 0 q = nuT σ0 (σ3 fR_behindFrom 0 0) := by
      rcases M with h | h | h | h | h | h
      · omega
      · omega
      · omega
      · exact h.2
      all_goals omega
    have S1 := thE_S (N := N) t.2.1 (by omega) (by omega)
    have o1 : thO σ0 ik nk (teV σ0 ik nk σ3) := thC_1 E S1 (by omega)
    have n1 : teV σ0 ik nk σ3 ≠ -1 := by
      intro z; rw [z] at o1; unfold thO at o1; omega
    have p2 := rnR_B E.1 t.1
    have c2 := cd_r E.2.1 (frB_t p2) (r := 2) (by omega)
    have pb : tePr σ0 ik nk σ3 true = true := by
      refine Classical.byContradiction fun z => ?_
      rw [if_neg z] at hc; omega
    have pb0 : tePr σ0 ik nk σ3 false = true := by
      unfold tePr prB at pb ⊢
      simp only [Bool.and_eq_true, Bool.not_false, Bool.true_or] at pb ⊢
      exact ⟨pb.1, trivial⟩
    have pq := prB_1 E n1 pb
    have nr := nuT_r E (k := σ3 fR_behindFrom 0 0) (by omega) t.2.2.1
    rw [if_pos pb] at w3
    rw [if_pos ⟨n1, pb0⟩] at m
    have pw : τ fM_qPhrase 0 x = 3 ∧ σ fS_what s 0 = 10 ∨ τ fM_qPhrase 0 x = 4 ∧ σ fS_what s 0 = 11 := by
      rcases w1 with z | z
      · refine Or.inl ⟨?_, z.2⟩
        rw [hx, z.1]; decide
      · refine Or.inr ⟨?_, z.2⟩
        rw [hx, z.1]; decide
    rw [w2, w3, w4]
    exact Or.inr (Or.inr (Or.inr (Or.inl ⟨pw, m.1, o1, m.2.1, pq.1, pq.2.1, pq.2.2 rfl, m.2.2, nr.1, nr.2.1⟩)))
  · -- stop
    have p1 : phW (σ0 fT_kinds 0 a) = 6 := by rw [R.1]; decide
    rw [p1] at hx
    exact Or.inr (Or.inr (Or.inr (Or.inr (Or.inl ⟨hx, R.2⟩))))
  · -- try
    obtain ⟨c1, w1, w2⟩ := R
    rw [if_neg (by omega), if_neg (by omega), if_neg (by omega), if_neg (by omega), if_neg (by omega)] at hc
    unfold tyC at hc
    have t : rnR σ0 τ0 f (τ0 fM_tRun 0 j) (σ3 fR_propertyFrom 0 0) (σ3 fR_propertyTo 0 0) ∧ ((σ3 fR_thingFrom 0 0 = -1) ∨ (0 ≤ σ3 fR_thingFrom 0 0 ∧ thE σ0 τ0 f (σ3 fR_thingFrom 0 0) (σ3 fR_thingTo 0 0) (τ0 fM_tThing 0 j) (τ0 fM_tThingRun 0 j) ∧ σ3 fR_thingTo 0 0 ≤ b)) := by
      rcases r3 with h | h | h | h | h | h
      · omega
      · omega
      · omega
      · omega
      · omega
      · obtain ⟨_, _, h3, _, h5⟩ := h
        refine ⟨rnR_k h3 kk, ?_⟩
        rcases h5 with y | y
        · exact Or.inl y.1
        · exact Or.inr ⟨y.1, thE_k y.2.2.1 kk, y.2.2.2.2⟩
    have p2 := rnR_B E.1 t.1
    have c2 := cd_r E.2.1 (frB_t p2) (r := 2) (by omega)
    have wc := e0_c E
    have p1 : phW (σ0 fT_kinds 0 a) = 5 := by rw [c1]; decide
    rw [p1] at hx
    have m : (σ3 fR_thingFrom 0 0 = -1 ∧ (acN σ0 false (σ3 fR_propertyFrom 0 0) (σ3 fR_propertyTo 0 0) = 1 → ac1 σ0 false (σ3 fR_propertyFrom 0 0) (σ3 fR_propertyTo 0 0) (τ fM_qProperty 0 q) (τ fM_qThing 0 q) ∧ τ fM_qNot 0 q = if τ fM_qThing 0 q = -1 then 1 else 0)) ∨ (σ3 fR_thingFrom 0 0 ≠ -1 ∧ τ fM_qProperty 0 q = tyX σ0 σ3 ∧ τ fM_qThing 0 q = mT (teV σ0 ik nk σ3) ∧ τ fM_qNot 0 q = 0) := by
      rcases M with h | h | h | h | h | h
      · omega
      · omega
      · omega
      · omega
      · omega
      · exact h.2
    refine Or.inr (Or.inr (Or.inr (Or.inr (Or.inr ⟨hx, w1, ?_⟩))))
    by_cases z : σ3 fR_thingFrom 0 0 = -1
    · rw [if_pos z] at hc
      have n1 := cnC_u E (frB_t p2) hc
      obtain ⟨_, w3⟩ := w2.resolve_right (fun v => v.1 z)
      obtain ⟨_, m3⟩ := m.resolve_right (fun v => v.1 z)
      have A := w3 n1
      obtain ⟨B, nB⟩ := m3 n1
      obtain ⟨pf, epf⟩ : ∃ y, y = σ3 fR_propertyFrom 0 0 := ⟨_, rfl⟩
      obtain ⟨pt, ept⟩ : ∃ y, y = σ3 fR_propertyTo 0 0 := ⟨_, rfl⟩
      rw [← epf, ← ept] at A B
      rcases A with A | A
      · rcases B with B | B
        · have xr := acX_r E pf pt
          have aw := A.1
          unfold acW at aw
          simp only [Bool.and_eq_true, decide_eq_true_eq, Bool.false_or] at aw
          rw [A.2.1, A.2.2]
          refine ⟨B.2.1, ?_, Or.inl ⟨rfl, B.2.2, ?_, aw.2⟩⟩
          · have := xr.resolve_left aw.1
            omega
          · rw [nB, if_pos B.2.2]
        · rw [A.1] at B; cases B.1
      · rcases B with B | B
        · rw [B.1] at A; cases A.1
        · obtain ⟨_, mm, A1, A2, A3⟩ := A
          obtain ⟨_, mm', B1, B2, B3⟩ := B
          rw [A1] at B1
          have em : mm = mm' := (List.cons.inj B1).1
          subst em
          have mem : mm ∈ acL σ0 false pf pt (pf + 1) := by rw [A1]; exact List.mem_singleton.mpr rfl
          unfold acL at mem
          have sB := (List.mem_filter.mp mem).2
          unfold acB at sB
          simp only [Bool.and_eq_true, decide_eq_true_eq] at sB
          have xr := (acX_r E pf mm).resolve_left sB.1.1.1
          have yr := (acY_r E mm pt).resolve_left sB.1.2
          have mv : mT (acY σ0 mm pt) = acY σ0 mm pt := by unfold mT; rw [if_neg (by omega), if_neg (by omega), if_neg (by omega)]
          rw [A2, A3, mv]
          refine ⟨B2, by omega, Or.inr ⟨Or.inr (Or.inr (by omega)), B3, ?_, sB.1.1.2⟩⟩
          rw [nB, B3, if_neg (by omega)]
    · rw [if_neg z] at hc
      obtain ⟨_, w3, w4⟩ := w2.resolve_left (fun v => z v.1)
      obtain ⟨_, m3, m4, m5⟩ := m.resolve_left (fun v => z v.1)
      obtain ⟨t0, t1, t2⟩ := t.2.resolve_left z
      have S1 := thE_S (N := N) t1 (by omega) (by omega)
      have o1 : thO σ0 ik nk (teV σ0 ik nk σ3) := thC_1 E S1 (by omega)
      have ok : ¬ (tyX σ0 σ3 = -1 ∨ σ0 fW_actionKinds 0 (tyX σ0 σ3) < 0) := by
        intro v
        rw [if_pos v] at hc
        omega
      have xr := e0_dN E (nmT σ0 (σ3 fR_propertyFrom 0 0) (σ3 fR_propertyTo 0 0)) 8
      have eX : dN σ0 (nmT σ0 (σ3 fR_propertyFrom 0 0) (σ3 fR_propertyTo 0 0)) 8 = tyX σ0 σ3 := rfl
      have m8 : mxN σ0 8 = σ0 fW_actions 0 0 := rfl
      rw [eX] at xr
      have ok1 : tyX σ0 σ3 ≠ -1 := fun v => ok (Or.inl v)
      have ok2 : ¬ σ0 fW_actionKinds 0 (tyX σ0 σ3) < 0 := fun v => ok (Or.inr v)
      rw [w3, w4]
      exact ⟨m3, by omega, Or.inr ⟨o1, m4, m5, by omega⟩⟩
/-- all that a phrase notes is not ahead of it -/
theorem phCd_ge (E : E0 σ0 τ0 f N) {σ3 : ga_S} {a b i j ik nk : Int} (T : pRw σ3 τ0 f a b i j) (kk : σ3 fT_kinds 0 = σ0 fT_kinds 0) (ha : 0 ≤ a) (hab : a < b) (hb : b ≤ N) : cd σ0 a 0 ≤ phCd σ0 ik nk σ3 a b := by
  have c0 := cd_r E.2.1 (t := a) (r := 0) (by omega) (by omega)
  obtain ⟨r1, r2, r3⟩ := T
  rw [kk] at r3
  unfold phCd
  rcases r3 with h | h | h | h | h | h
  · rw [if_pos h.1]
    exact if_ge (by omega) (cd_le E ha (by omega) (by omega) (by omega))
  · rw [if_neg (by omega), if_pos h.1]
    have g := teCd_ge (ik := ik) (nk := nk) (now := true) E h.2.2 kk (by omega) (by omega) hb
    have l := cd_le E ha (show a ≤ a + 1 by omega) (by omega) (r := 0) (by omega)
    omega
  · obtain ⟨h1, h2, h3, h4, h5, h6⟩ := h
    rw [if_neg (by omega), if_neg (by omega), if_pos h1]
    have S3 := thE_S (N := N) (thE_k h3 kk) (by omega) (by omega)
    have S4 := thE_S (N := N) (thE_k h4 kk) (by omega) (by omega)
    have g1 := thC_ge (ik := ik) (nk := nk) E ha h5.1 S3
    have g2 := thC_ge (ik := ik) (nk := nk) E ha h6.1 S4
    have g3 : cd σ0 a 0 ≤ mvC σ0 ik nk σ3 := by
      unfold mvC
      have w := thW_r S3
      exact if_ge (by omega) (if_ge (by omega) (cd_le E ha (by omega) (thW_t S3).2 (by omega)))
    omega
  · obtain ⟨h1, h2, h3, h4, h5, h6, h7, h8⟩ := h
    rw [if_neg (by omega), if_neg (by omega), if_neg (by omega), if_pos (by omega)]
    have S3 := thE_S (N := N) (thE_k h3 kk) (by omega) (by omega)
    have p2 := rnR_B E.1 (rnR_k h2 kk)
    have g1 := thC_ge (ik := ik) (nk := nk) E ha h7.1 S3
    have g2 : cd σ0 a 0 ≤ (if tePr σ0 ik nk σ3 true = true then 1000000 else cd σ0 (σ3 fR_propertyFrom 0 0) 2) := if_ge (by omega) (cd_le E ha h6.1 (frB_t p2).2 (by omega))
    omega
  · rw [if_neg (by omega), if_neg (by omega), if_neg (by omega), if_neg (by omega), if_pos h.1]
    omega
  · obtain ⟨h1, h2, h3, h4, h5⟩ := h
    rw [if_neg (by omega), if_neg (by omega), if_neg (by omega), if_neg (by omega), if_neg (by omega)]
    have p2 := rnR_B E.1 (rnR_k h3 kk)
    unfold tyC
    rcases h5 with y | y
    · rw [if_pos y.1]
      exact cnC_ge E ha h4.1 (frB_t p2).2
    · rw [if_neg (by omega)]
      have S3 := thE_S (N := N) (thE_k y.2.2.1 kk) (by omega) (by omega)
      have g1 := thC_ge (ik := ik) (nk := nk) E ha y.2.2.2.1 S3
      have g2 : cd σ0 a 0 ≤ (if tyX σ0 σ3 = -1 ∨ σ0 fW_actionKinds 0 (tyX σ0 σ3) < 0 then cd σ0 (σ3 fR_propertyFrom 0 0) 2 else 1000000) := if_ge (cd_le E ha h4.1 (frB_t p2).2 (by omega)) (by omega)
      omega
end

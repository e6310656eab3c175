/-! a test with is: its thing, up to is -/
/-- what parts of a test leave -/
def tsQ (σ σ' τ τ' : ga_S) (f : Int) (N : Nat) (j : Int) : Prop := PR σ' τ' f N ∧ JR σ' τ' ∧ fr tsC σ σ' ∧ fr tsM τ τ' ∧ σ' fR_runs 0 0 = σ fR_runs 0 0 ∧ rKeepC σ σ' ∧ rKeep τ τ' ∧ tKeep τ τ' j
theorem tsQ_trans {σ σ1 σ2 τ τ1 τ2 : ga_S} {f : Int} {N : Nat} {j : Int} (h : tsQ σ σ1 τ τ1 f N j) (h2 : tsQ σ1 σ2 τ1 τ2 f N j) : tsQ σ σ2 τ τ2 f N j := by
  obtain ⟨a1, a2, a3, a4, a5, a6, a7, a8⟩ := h
  obtain ⟨b1, b2, b3, b4, b5, b6, b7, b8⟩ := h2
  exact ⟨b1, b2, fr_trans a3 b3, fr_trans a4 b4, b5.trans a5, rKeepC_trans a6 (by omega) b6, rKeep_trans a7 b7, tKeep_trans a8 b8⟩
theorem tsQ_E {σ σ' τ τ' : ga_S} {f : Int} {N : Nat} {j : Int} (h : tsQ σ σ' τ τ' f N j) (hE : ENV σ τ f N) : ENV σ' τ' f N := ENV_c hE (h.2.2.1 _ (by decide)) (h.2.2.2.1 _ (by decide))
/-- stores that differ only in what parsers keep aside -/
theorem tsQ_up {σ σ' τ τ' : ga_S} {f : Int} {N : Nat} {j : Int} (hP : PR σ τ f N) (hJ : JR σ τ) {LC LM : List Nat} (h1 : fr LC σ σ') (h2 : fr LM τ τ') (hc : LC.all (fun F => tsC.contains F && !([fR_p, fR_bad, fR_runs, fR_runFrom, fR_runTo].contains F)) = true) (hm : LM.all (fun F => tsM.contains F && !([fM_at, fM_isBad, fM_badAt, fM_runs, fM_runFrom, fM_runSize].contains F)) = true) (hk : tKeep τ τ' j) : tsQ σ σ' τ τ' f N j := by
  have c1 : ∀ F, F ∈ LC → F ∈ tsC := fun F hF => by have := List.all_eq_true.mp hc F hF; simp only [Bool.and_eq_true, List.contains_iff_mem] at this; exact this.1
  have c2 : ∀ F, F ∈ [fR_p, fR_bad, fR_runs, fR_runFrom, fR_runTo] → F ∉ LC := fun F hF hL => by
    have := List.all_eq_true.mp hc F hL
    rw [Bool.and_eq_true] at this
    have t := this.2
    rw [List.contains_iff_mem.mpr hF] at t
    cases t
  have m1 : ∀ F, F ∈ LM → F ∈ tsM := fun F hF => by have := List.all_eq_true.mp hm F hF; simp only [Bool.and_eq_true, List.contains_iff_mem] at this; exact this.1
  have m2 : ∀ F, F ∈ [fM_at, fM_isBad, fM_badAt, fM_runs, fM_runFrom, fM_runSize] → F ∉ LM := fun F hF hL => by
    have := List.all_eq_true.mp hm F hL
    rw [Bool.and_eq_true] at this
    have t := this.2
    rw [List.contains_iff_mem.mpr hF] at t
    cases t
  have kk : σ' fT_kinds = σ fT_kinds := fr_sub h1 c1 _ (by decide)
  have p := h1 fR_p (c2 _ (by decide))
  have b := h1 fR_bad (c2 _ (by decide))
  have r := h1 fR_runs (c2 _ (by decide))
  have r' := h2 fM_runs (m2 _ (by decide))
  refine ⟨PR_c hP p b (h2 _ (m2 _ (by decide))) (h2 _ (m2 _ (by decide))) (h2 _ (m2 _ (by decide))), ?_, fr_sub h1 c1, fr_sub h2 m1, by rw [r], rKeepC_eq (h1 _ (c2 _ (by decide))) (h1 _ (c2 _ (by decide))), rKeep_eq r' (h2 _ (m2 _ (by decide))) (h2 _ (m2 _ (by decide))), hk⟩
  exact JR_mv hJ (by rw [r]) (by rw [r']) kk (fun z => by rw [b] at z; rw [p]; exact ⟨z, Or.inl rfl⟩)
theorem tsQ_refl {σ τ : ga_S} {f : Int} {N : Nat} {j : Int} (hP : PR σ τ f N) (hJ : JR σ τ) : tsQ σ σ τ τ f N j := ⟨hP, hJ, fr_refl _ _, fr_refl _ _, rfl, fun _ _ => ⟨rfl, rfl⟩, rKeep_refl _, tKeep_refl _ _⟩
theorem thP_Q {σ σ' τ τ' : ga_S} {f : Int} {N : Nat} {j : Int} (h : thP σ σ' τ τ' f N) : tsQ σ σ' τ τ' f N j := by
  obtain ⟨a1, a2, a3, a4, a5, a6, a7, _⟩ := h
  exact ⟨a1, a2, fr_sub a3 (by decide), fr_sub a4 (by decide), a5, a6, a7, tKeep_f a4 (mem_no (by decide))⟩
/-- no token of a thing is is, nor ends a test -/
theorem thR_no {σ τ : ga_S} {f a b s t r : Int} (h : thR σ τ f a b s t r) : ∀ q, a ≤ q → q < b → σ fT_kinds 0 q ≠ 13 ∧ ∀ now, ¬ endT now (σ fT_kinds 0 q) := by
  intro q h1 h2
  obtain ⟨h0, g | g | g⟩ := h
  · have e : q = a := by omega
    rw [e, g.1]
    exact ⟨by decide, fun now z => by unfold endT at z; omega⟩
  · rcases g.2.2.1 with e | ⟨e, e2⟩
    · have e : q = b - 1 := by omega
      rw [e, g.2.1]
      exact ⟨by decide, fun now z => by unfold endT at z; omega⟩
    · by_cases c : q = a
      · rw [c, e2]
        exact ⟨by decide, fun now z => by unfold endT at z; omega⟩
      · have e : q = b - 1 := by omega
        rw [e, g.2.1]
        exact ⟨by decide, fun now z => by unfold endT at z; omega⟩
  · obtain ⟨g1, c, g2, g3, g4, _⟩ := g
    by_cases cq : c ≤ q
    · rw [g4 q cq h2]
      exact ⟨by decide, fun now z => by unfold endT at z; omega⟩
    · have e : q = a := by split at g2 <;> omega
      have ha : 9 ≤ σ fT_kinds 0 a ∧ σ fT_kinds 0 a ≤ 12 := by
        by_cases x : 9 ≤ σ fT_kinds 0 a ∧ σ fT_kinds 0 a ≤ 12
        · exact x
        · rw [if_neg x] at g2; omega
      rw [e]
      exact ⟨by omega, fun now z => by unfold endT at z; omega⟩
theorem thR_st {σ τ : ga_S} {f a b s t r : Int} (h : thR σ τ f a b s t r) : (s = 0 ∨ s = 1 ∨ s = 2) ∧ f + a ≤ t ∧ t < f + b := by
  obtain ⟨h0, g | g | g⟩ := h
  · omega
  · omega
  · obtain ⟨g1, c, g2, g3, g4, g5, g6, _⟩ := g
    split at g2 <;> omega
theorem thR_c {σ σ' τ : ga_S} {f a b s t r : Int} (h : thR σ τ f a b s t r) (hk : σ' fT_kinds = σ fT_kinds) : thR σ' τ f a b s t r := by
  unfold thR
  rw [hk]
  exact h
/-- the model's thing of a test: its row -/
theorem T_thing {σ τ : ga_S} {f : Int} {N : Nat} (hE : ENV σ τ f N) (h : PR σ τ f N) (hJ : JR σ τ) {d : Nat} (hd : 6 ≤ d) (hj : 0 ≤ τ fM_tCount 0 0 ∧ τ fM_tCount 0 0 < 1700) : ∃ σ' τ', c_r_thing d σ = some (0, σ') ∧ c_m_thingOfTest d τ = some (0, τ') ∧ tsQ σ σ' τ τ' f N (τ fM_tCount 0 0) ∧ τ' fM_tCount = τ fM_tCount ∧ fr tcL σ σ' ∧ fr (fM_tThing :: fM_tThingRun :: tmL) τ τ' ∧ (σ' fR_bad 0 0 = -1 → σ fR_bad 0 0 = -1 ∧ σ' fR_thingFrom 0 0 = σ fR_p 0 0 ∧ σ' fR_thingTo 0 0 = σ' fR_p 0 0 ∧ σ fR_p 0 0 < σ' fR_p 0 0 ∧ (∀ q, σ fR_p 0 0 ≤ q → q < σ' fR_p 0 0 → σ fT_kinds 0 q ≠ 13 ∧ ∀ now, ¬ endT now (σ fT_kinds 0 q)) ∧ thE σ' τ' f (σ fR_p 0 0) (σ' fR_p 0 0) (τ' fM_tThing 0 (τ fM_tCount 0 0)) (τ' fM_tThingRun 0 (τ fM_tCount 0 0))) := by
  obtain ⟨d, rfl⟩ : ∃ e, d = e + 1 := ⟨d - 1, by omega⟩
  have hf := hE.1
  have hN := hE.2.1
  have hR := h.1
  obtain ⟨σ', τ1, g1, g2, hP⟩ := P_thing hE h hJ (d := d) (by omega)
  have g1' : c_r_thing (d + 1) σ = some (0, σ') := am_mono g1 (by omega)
  have Q := thP_Q (j := τ fM_tCount 0 0) hP
  obtain ⟨a1, a2, a3, a4, a5, a6, a7, a8⟩ := hP
  have jt : τ1 fM_tCount 0 0 = τ fM_tCount 0 0 := by rw [a4 _ (by decide)]
  rw [g1', e_m_thingOfTest, g2]
  simp only [Option.bind_some]
  rw [jt, ck_ok _ hj, ck_ok _ hj]
  have Q2 : tsQ σ' σ' τ1 (ga_up (ga_up τ1 fM_tThing 0 (τ fM_tCount 0 0) (w32 (w32 (τ1 fM_thingSort 0 0 * 10000) + τ1 fM_thingAt 0 0))) fM_tThingRun 0 (τ fM_tCount 0 0) (τ1 fM_thingRun 0 0)) f N (τ fM_tCount 0 0) :=
    tsQ_up a1 a2 (LC := []) (LM := [fM_tThing, fM_tThingRun]) (fr_refl _ _) (fr_trans (fr_u (by decide)) (fr_u (by decide))) (by decide) (by decide) (tKeep_trans tKeep_u tKeep_u)
  refine ⟨σ', _, rfl, rfl, tsQ_trans Q Q2, ?_, a3, ?_, fun z => ?_⟩
  · rw [up_F (by decide), up_F (by decide), a4 _ (by decide)]
  · exact fr_trans (fr_sub a4 (by decide)) (fr_trans (fr_u (by decide)) (fr_u (by decide)))
  · obtain ⟨b1, b2, b3, b4⟩ := a8 z
    have st := thR_st b4
    have hp1 := a1.1
    have no := thR_no b4
    have b5 := b4.1
    refine ⟨b1, b2, b3, b5, fun q h1 h2 => ?_, τ1 fM_thingSort 0 0, τ1 fM_thingAt 0 0, ?_, by omega, by omega, ?_⟩
    · have := no q h1 h2
      rw [a3 _ (by decide)] at this
      exact this
    · rw [up_F (by decide), up_eq, w32_ok (x := τ1 fM_thingSort 0 0 * 10000) (by omega), w32_ok (by omega)]
    · rw [up_eq]
      exact thR_keep b4 Q2.2.2.2.2.2.2.1
theorem thE_keep {σ σ' τ τ' : ga_S} {f a b x r : Int} (h : thE σ τ f a b x r) (hk : rKeep τ τ') (hs : σ' fT_kinds = σ fT_kinds) : thE σ' τ' f a b x r := by
  obtain ⟨s, t, h1, h2, h3, h4⟩ := h
  exact ⟨s, t, h1, h2, h3, thR_c (thR_keep h4 hk) hs⟩
theorem PR_Q {σ σ' τ τ' : ga_S} {f : Int} {N : Nat} {j : Int} (hP : PR σ' τ' f N) (hJ : JR σ τ) (h1 : fr pcL σ σ') (h2 : fr pmL τ τ') (h4 : σ' fR_bad 0 0 = -1 → σ fR_bad 0 0 = -1 ∧ (σ' fR_p 0 0 = σ fR_p 0 0 ∨ σ fR_p 0 0 < σ' fR_p 0 0)) : tsQ σ σ' τ τ' f N j :=
  ⟨hP, JR_mv hJ (by rw [h1 _ (by decide)]) (by rw [h2 _ (by decide)]) (h1 _ (by decide)) h4, fr_sub h1 (by decide), fr_sub h2 (by decide), by rw [h1 _ (by decide)], rKeepC_eq (h1 _ (by decide)) (h1 _ (by decide)), rKeep_eq (h2 _ (by decide)) (h2 _ (by decide)) (h2 _ (by decide)), tKeep_f h2 (mem_no (by decide))⟩
/-- up to is: the thing, the end of it, is -/
theorem T_is {σ τ : ga_S} {f : Int} {N : Nat} (hE : ENV σ τ f N) (h : PR σ τ f N) (hJ : JR σ τ) {d : Nat} (hd : 6 ≤ d) (hj : 0 ≤ τ fM_tCount 0 0 ∧ τ fM_tCount 0 0 < 1700) {q : Int} (hq : σ fR_bad 0 0 = -1 → σ fR_p 0 0 ≤ q ∧ ∀ k, σ fR_p 0 0 ≤ k → k < q → σ fT_kinds 0 k ≠ 13) (hq2 : σ fT_kinds 0 q = 13) : ∃ σ1 σ2 σ' v τ1 τ', c_r_thing d σ = some (0, σ1) ∧ c_r_end d σ1 q = some (0, σ2) ∧ c_r_take d σ2 13 = some (v, σ') ∧ c_m_thingOfTest d τ = some (0, τ1) ∧ c_m_take d τ1 104 = some (0, τ') ∧ tsQ σ σ' τ τ' f N (τ fM_tCount 0 0) ∧ τ' fM_tCount = τ fM_tCount ∧ fr tcL σ σ' ∧ fr (fM_tThing :: fM_tThingRun :: tmL) τ τ' ∧ (σ' fR_bad 0 0 = -1 → σ fR_bad 0 0 = -1 ∧ σ' fR_p 0 0 = q + 1 ∧ σ' fR_thingFrom 0 0 = σ fR_p 0 0 ∧ σ' fR_thingTo 0 0 = q ∧ thE σ' τ' f (σ fR_p 0 0) q (τ' fM_tThing 0 (τ fM_tCount 0 0)) (τ' fM_tThingRun 0 (τ fM_tCount 0 0))) := by
  obtain ⟨σ1, τ1, e1, e2, Q1, ej, f1, m1, e3⟩ := T_thing hE h hJ hd hj
  have E1 := tsQ_E Q1 hE
  have P1 := Q1.1
  have k1 : σ1 fT_kinds = σ fT_kinds := f1 _ (by decide)
  by_cases cb : σ1 fR_bad 0 0 = -1
  · obtain ⟨b0, b1, b2, b3, b4, b5⟩ := e3 cb
    obtain ⟨hq0, hq1⟩ := hq b0
    have ok := P1.2.resolve_right (fun z => by omega)
    have le : σ1 fR_p 0 0 ≤ q := by
      refine Classical.byContradiction fun hc => ?_
      exact (b4 q hq0 (by omega)).1 hq2
    obtain ⟨v, σ', τ', g1, g2, g3, g4, g5, g6, g7⟩ := P_take' E1 P1 (d := d) (by omega) (c := 13) (m := 104) (by decide) (by omega) (by omega) (by omega)
    by_cases c : σ1 fR_p 0 0 = q
    · have ee : c_r_end d σ1 q = some (0, σ1) := by
        obtain ⟨d, rfl⟩ : ∃ e, d = e + 1 := ⟨d - 1, by omega⟩
        rw [e_r_end, if_pos cb, if_pos c]
      have tk : σ1 fR_bad 0 0 = -1 ∧ σ1 fT_kinds 0 (σ1 fR_p 0 0) = 13 := ⟨cb, by rw [c, k1]; exact hq2⟩
      have gb := g6.mpr tk
      have gp := g7 gb
      have Q2 : tsQ σ1 σ' τ1 τ' f N (τ fM_tCount 0 0) := PR_Q g3 Q1.2.1 g4 g5 (fun _ => ⟨cb, Or.inr (by omega)⟩)
      refine ⟨σ1, σ1, σ', v, τ1, τ', e1, ee, g1, e2, g2, tsQ_trans Q1 Q2, ?_, fr_trans f1 (fr_sub g4 (by decide)), fr_trans m1 (fr_sub g5 (by decide)), fun _ => ⟨b0, by omega, ?_, ?_, ?_⟩⟩
      · rw [g5 _ (by decide), ej]
      · rw [g4 _ (by decide)]; exact b1
      · rw [g4 _ (by decide), b2]; exact c
      · rw [g5 fM_tThing (by decide), g5 fM_tThingRun (by decide)]
        rw [c] at b5
        exact thE_keep b5 Q2.2.2.2.2.2.2.1 (g4 _ (by decide))
    · -- the end isn't there: both are wrong at the same place
      have nk : ¬ (σ1 fR_bad 0 0 = -1 ∧ σ1 fT_kinds 0 (σ1 fR_p 0 0) = 13) := fun z => by
        rw [k1] at z
        exact hq1 _ (by omega) (by omega) z.2
      have gb : σ' fR_bad 0 0 ≠ -1 := fun z => nk (g6.mp z)
      obtain ⟨d, rfl⟩ : ∃ e, d = e + 1 := ⟨d - 1, by omega⟩
      obtain ⟨d, rfl⟩ : ∃ e, d = e + 1 := ⟨d - 1, by omega⟩
      have w1 := s_r_wrong (σ := σ1) (d := d + 1) (by omega)
      rw [if_pos cb] at w1
      have nb : (ga_up σ1 fR_bad 0 0 (σ1 fR_p 0 0)) fR_bad 0 0 ≠ -1 := by rw [up_eq]; omega
      have ee : c_r_end (d + 1 + 1) σ1 q = some (0, ga_up σ1 fR_bad 0 0 (σ1 fR_p 0 0)) := by
        rw [e_r_end, if_pos cb, if_neg c, w1]; rfl
      have et : c_r_take (d + 1 + 1) (ga_up σ1 fR_bad 0 0 (σ1 fR_p 0 0)) 13 = some (0, ga_up σ1 fR_bad 0 0 (σ1 fR_p 0 0)) := cb_take (by omega) nb 13
      have eσ : σ' = ga_up σ1 fR_bad 0 0 (σ1 fR_p 0 0) := by
        rw [e_r_take, if_pos cb, ck_ok _ (by have := E1.1; have := E1.2.1; have := P1.1; omega), if_neg (fun z => nk ⟨cb, z⟩), e_r_take_24, w1] at g1
        simp only [Option.bind_some] at g1
        rw [z1_ok _ (by omega)] at g1
        exact (Prod.mk.inj (Option.some.inj g1)).2.symm
      have Q2 : tsQ σ1 σ' τ1 τ' f N (τ fM_tCount 0 0) := PR_Q g3 Q1.2.1 g4 g5 (fun z => absurd z gb)
      refine ⟨σ1, _, σ', 0, τ1, τ', e1, ee, by rw [et, eσ], e2, g2, tsQ_trans Q1 Q2, by rw [g5 _ (by decide), ej], fr_trans f1 (fr_sub g4 (by decide)), fr_trans m1 (fr_sub g5 (by decide)), fun z => absurd z gb⟩
  · have bad := P1.2.resolve_left (fun z => cb z.1)
    refine ⟨σ1, σ1, σ1, 0, τ1, τ1, e1, cb_end (by omega) cb q, cb_take (by omega) cb 13, e2, mb_take (by omega) bad.2.2.1 104, Q1, ej, f1, m1, fun z => absurd z cb⟩

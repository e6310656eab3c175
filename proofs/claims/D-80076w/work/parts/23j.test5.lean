/-! a test behind is and not -/
/-- a place and its thing, on both sides -/
theorem T_plc {σ τ : ga_S} {f : Int} {N : Nat} (hE : ENV σ τ f N) (h : PR σ τ f N) (hJ : JR σ τ) (hb : σ fR_bad 0 0 = -1) (hw : plS (σ fT_kinds 0 (σ fR_p 0 0)) ≠ 0) {d : Nat} (hd : 6 ≤ d) {now b : Int} (hT : toT (σ fT_kinds 0) now (σ fR_p 0 0) b) (hj : 0 ≤ τ fM_tCount 0 0 ∧ τ fM_tCount 0 0 < 1700) : ∃ σ' τ', (c_r_placeWords d (ga_up σ fR_form 0 0 1)).bind (fun q16 => (c_r_thing d q16.2).bind fun q17 => r_testShape_528 d (ga_up (ga_up (ga_up (ga_up q17.2 fR_placeFrom 0 0 (q17.2 fR_thingFrom 0 0)) fR_placeTo 0 0 (q17.2 fR_thingTo 0 0)) fR_thingFrom 0 0 (q16.2 fR_thingFrom 0 0)) fR_thingTo 0 0 (q16.2 fR_thingTo 0 0)) b) = some (0, σ') ∧
    (c_m_placing d (ga_up τ fM_tForm 0 (τ fM_tCount 0 0) 4)).bind (fun q12 => ga_ck (τ fM_tCount 0 0) 1700 ((c_m_thing d (ga_up q12.2 fM_tWay 0 (τ fM_tCount 0 0) q12.1)).bind fun q13 => ga_ck (q13.2 fM_tCount 0 0) 1700 (ga_ck (q13.2 fM_tCount 0 0) 1700 (m_test_351 d (ga_up (ga_up q13.2 fM_tOther 0 (q13.2 fM_tCount 0 0) (w32 (w32 (q13.2 fM_thingSort 0 0 * 10000) + q13.2 fM_thingAt 0 0))) fM_tOtherRun 0 (q13.2 fM_tCount 0 0) (q13.2 fM_thingRun 0 0)) now)))) = some (0, τ') ∧
    tsR σ σ' τ τ' f N b (τ fM_tCount 0 0) ∧ σ' fR_thingFrom 0 0 = σ fR_thingFrom 0 0 ∧ σ' fR_thingTo 0 0 = σ fR_thingTo 0 0 ∧ σ' fR_isNot = σ fR_isNot ∧ thK τ τ' ∧ τ' fM_tThingRun = τ fM_tThingRun ∧ τ' fM_tNot = τ fM_tNot ∧ (σ' fR_bad 0 0 = -1 → σ' fR_form 0 0 = 1 ∧ τ' fM_tForm 0 (τ fM_tCount 0 0) = 4 ∧ τ' fM_tWay 0 (τ fM_tCount 0 0) = σ' fR_placeSort 0 0 ∧ thE σ' τ' f (σ' fR_placeFrom 0 0) (σ' fR_placeTo 0 0) (τ' fM_tOther 0 (τ fM_tCount 0 0)) (τ' fM_tOtherRun 0 (τ fM_tCount 0 0)) ∧ σ fR_p 0 0 ≤ σ' fR_placeFrom 0 0 ∧ σ' fR_placeTo 0 0 ≤ b) := by
  have hf := hE.1
  have hN := hE.2.1
  have hR := h.1
  obtain ⟨j, ej⟩ : ∃ j, j = τ fM_tCount 0 0 := ⟨_, rfl⟩
  rw [← ej] at hj ⊢
  have Q0 : tsQ σ (ga_up σ fR_form 0 0 1) τ (ga_up τ fM_tForm 0 j 4) f N j := tsQ_up h hJ (LC := [fR_form]) (LM := [fM_tForm]) (fr_u (by decide)) (fr_u (by decide)) (by decide) (by decide) tKeep_u
  have E0 := tsQ_E Q0 hE
  have k0 : (ga_up σ fR_form 0 0 1) fT_kinds = σ fT_kinds := up_F (by decide) ..
  have p0 : (ga_up σ fR_form 0 0 1) fR_p = σ fR_p := up_F (by decide) ..
  have b0 : (ga_up σ fR_form 0 0 1) fR_bad = σ fR_bad := up_F (by decide) ..
  obtain ⟨σ1, τ1, e1, e2, e3, f1, m1, e4, e5, e6⟩ := P_place E0 Q0.1 (by rw [b0]; exact hb) (by rw [k0, p0]; exact hw) (d := d) (by omega)
  rw [k0, p0] at e2 e4
  rw [p0] at e5
  obtain ⟨w, ew⟩ : ∃ w, w = plS (σ fT_kinds 0 (σ fR_p 0 0)) := ⟨_, rfl⟩
  rw [← ew] at e2 e4
  have Q1 : tsQ (ga_up σ fR_form 0 0 1) σ1 (ga_up τ fM_tForm 0 j 4) τ1 f N j := ⟨e3, JR_mv Q0.2.1 (by rw [f1 _ (by decide)]) (by rw [m1 _ (by decide)]) (f1 _ (by decide)) (fun z => ⟨by rw [b0]; exact hb, Or.inr (by rw [p0]; exact e5 z)⟩), fr_sub f1 (by decide), fr_sub m1 (by decide), by rw [f1 _ (by decide)], rKeepC_eq (f1 _ (by decide)) (f1 _ (by decide)), rKeep_eq (m1 _ (by decide)) (m1 _ (by decide)) (m1 _ (by decide)), tKeep_f m1 (mem_no (by decide))⟩
  have Q2 : tsQ σ1 σ1 τ1 (ga_up τ1 fM_tWay 0 j w) f N j := tsQ_up e3 Q1.2.1 (LC := []) (LM := [fM_tWay]) (fr_refl _ _) (fr_u (by decide)) (by decide) (by decide) tKeep_u
  have E2 := tsQ_E Q2 (tsQ_E Q1 E0)
  obtain ⟨σ2, τ2, g1, g2, hP⟩ := P_thing E2 Q2.1 Q2.2.1 (d := d) (by omega)
  have Q3 := thP_Q (j := j) hP
  obtain ⟨a1, a2, a3, a4, a5, a6, a7, a8⟩ := hP
  have jt2 : τ2 fM_tCount 0 0 = j := by rw [a4 _ (by decide), up_F (by decide), m1 _ (by decide), up_F (by decide)]; exact ej.symm
  rw [e1, e2]
  simp only [Option.bind_some]
  rw [ck_ok _ hj, g1, g2]
  simp only [Option.bind_some]
  rw [jt2, ck_ok _ hj, ck_ok _ hj]
  have Q4 : tsQ σ2 (ga_up (ga_up (ga_up (ga_up σ2 fR_placeFrom 0 0 (σ2 fR_thingFrom 0 0)) fR_placeTo 0 0 (σ2 fR_thingTo 0 0)) fR_thingFrom 0 0 (σ1 fR_thingFrom 0 0)) fR_thingTo 0 0 (σ1 fR_thingTo 0 0)) τ2 (ga_up (ga_up τ2 fM_tOther 0 j (w32 (w32 (τ2 fM_thingSort 0 0 * 10000) + τ2 fM_thingAt 0 0))) fM_tOtherRun 0 j (τ2 fM_thingRun 0 0)) f N j :=
    tsQ_up a1 a2 (LC := [fR_placeFrom, fR_placeTo, fR_thingFrom, fR_thingTo]) (LM := [fM_tOther, fM_tOtherRun]) (fr_trans (fr_trans (fr_trans (fr_u (by decide)) (fr_u (by decide))) (fr_u (by decide))) (fr_u (by decide))) (fr_trans (fr_u (by decide)) (fr_u (by decide))) (by decide) (by decide) (tKeep_trans tKeep_u tKeep_u)
  obtain ⟨σ3, eσ3⟩ : ∃ x, x = ga_up (ga_up (ga_up (ga_up σ2 fR_placeFrom 0 0 (σ2 fR_thingFrom 0 0)) fR_placeTo 0 0 (σ2 fR_thingTo 0 0)) fR_thingFrom 0 0 (σ1 fR_thingFrom 0 0)) fR_thingTo 0 0 (σ1 fR_thingTo 0 0) := ⟨_, rfl⟩
  obtain ⟨τ3, eτ3⟩ : ∃ x, x = ga_up (ga_up τ2 fM_tOther 0 j (w32 (w32 (τ2 fM_thingSort 0 0 * 10000) + τ2 fM_thingAt 0 0))) fM_tOtherRun 0 j (τ2 fM_thingRun 0 0) := ⟨_, rfl⟩
  rw [← eσ3, ← eτ3] at Q4 ⊢
  have E4 := tsQ_E Q4 (tsQ_E Q3 E2)
  have b3 : σ3 fR_bad = σ2 fR_bad := by rw [eσ3, up_F (by decide), up_F (by decide), up_F (by decide), up_F (by decide)]
  have p3 : σ3 fR_p = σ2 fR_p := by rw [eσ3, up_F (by decide), up_F (by decide), up_F (by decide), up_F (by decide)]
  have k2 : σ2 fT_kinds = σ fT_kinds := by rw [a3 _ (by decide), f1 _ (by decide), k0]
  have k3 : σ3 fT_kinds = σ fT_kinds := by rw [eσ3, up_F (by decide), up_F (by decide), up_F (by decide), up_F (by decide)]; exact k2
  have jt3 : τ3 fM_tCount 0 0 = j := by rw [eτ3, up_F (by decide), up_F (by decide)]; exact jt2
  have hT3 : σ3 fR_bad 0 0 = -1 → toT (σ3 fT_kinds 0) now (σ3 fR_p 0 0) b := by
    intro z
    rw [b3] at z
    obtain ⟨c1, c2, c3, c4⟩ := a8 z
    have no := thR_no c4
    rw [k2] at no
    have e5' := e5 c1
    obtain ⟨t1, t2, t3⟩ := hT
    -- the words of the place end ahead of b
    have le1 : σ1 fR_p 0 0 ≤ b := by
      refine Classical.byContradiction fun hc => ?_
      have := e6 c1 b (by rw [p0]; exact t1) (by omega)
      rw [k0] at this
      unfold endT at t2
      omega
    rw [k3, p3]
    refine ⟨?_, t2, fun q h1 h2 => t3 q (by have := c4.1; omega) h2⟩
    refine Classical.byContradiction fun hc => ?_
    exact (no b le1 (by omega)).2 now t2
  obtain ⟨σ', τ', n1, n2, ⟨n3, n4, n5⟩, n6, n7, n8⟩ := T_fin E4 Q4.1 Q4.2.1 (d := d) (by omega) hT3 (by rw [jt3]; exact hj)
  rw [jt3] at n3 n4
  rw [n1, n2]
  have e1t : σ1 fR_thingFrom = σ fR_thingFrom ∧ σ1 fR_thingTo = σ fR_thingTo ∧ σ1 fR_isNot = σ fR_isNot := ⟨by rw [f1 _ (by decide), up_F (by decide)], by rw [f1 _ (by decide), up_F (by decide)], by rw [f1 _ (by decide), up_F (by decide)]⟩
  refine ⟨σ', τ', rfl, rfl, ⟨tsQ_trans Q0 (tsQ_trans Q1 (tsQ_trans Q2 (tsQ_trans Q3 (tsQ_trans Q4 n3)))), n4, fun z => ⟨hb, (n5 z).2⟩⟩, ?_, ?_, ?_, ?_, ?_, ?_, fun z => ?_⟩
  · rw [n6 _ (by decide), eσ3, up_F (by decide), up_eq, e1t.1]
  · rw [n6 _ (by decide), eσ3, up_eq, e1t.2.1]
  · rw [n6 _ (by decide), eσ3, up_F (by decide), up_F (by decide), up_F (by decide), up_F (by decide), a3 _ (by decide)]; exact e1t.2.2
  · exact ⟨by rw [n7 _ (by decide), eτ3, up_F (by decide), up_F (by decide), a4 _ (by decide), up_F (by decide), m1 _ (by decide), up_F (by decide)], by rw [n7 _ (by decide), eτ3, up_F (by decide), up_F (by decide), a4 _ (by decide), up_F (by decide), m1 _ (by decide), up_F (by decide)]⟩
  · rw [n7 _ (by decide), eτ3, up_F (by decide), up_F (by decide), a4 _ (by decide), up_F (by decide), m1 _ (by decide), up_F (by decide)]
  · rw [n7 _ (by decide), eτ3, up_F (by decide), up_F (by decide), a4 _ (by decide), up_F (by decide), m1 _ (by decide), up_F (by decide)]
  · have z3 := (n5 z).1
    rw [b3] at z3
    obtain ⟨c1, c2, c3, c4⟩ := a8 z3
    have st := thR_st c4
    have hp1 := a1.1
    have t1 : σ3 fR_placeFrom 0 0 = σ1 fR_p 0 0 := by rw [eσ3, up_F (by decide), up_F (by decide), up_F (by decide), up_eq]; exact c2
    have t2 : σ3 fR_placeTo 0 0 = σ2 fR_p 0 0 := by rw [eσ3, up_F (by decide), up_F (by decide), up_eq]; exact c3
    refine ⟨?_, ?_, ?_, ?_, ?_, ?_⟩
    · rw [n6 _ (by decide), eσ3, up_F (by decide), up_F (by decide), up_F (by decide), up_F (by decide), a3 _ (by decide), f1 _ (by decide), up_eq]
    · rw [n7 _ (by decide), eτ3, up_F (by decide), up_F (by decide), a4 _ (by decide), up_F (by decide), m1 _ (by decide), up_eq]
    · rw [n7 _ (by decide), eτ3, up_F (by decide), up_F (by decide), a4 _ (by decide), up_eq, n6 _ (by decide), eσ3, up_F (by decide), up_F (by decide), up_F (by decide), up_F (by decide), a3 _ (by decide), e4]
    · rw [n6 fR_placeFrom (by decide), n6 fR_placeTo (by decide), t1, t2, n7 fM_tOther (by decide), n7 fM_tOtherRun (by decide)]
      refine thE_keep (σ := σ2) (τ := τ2) ⟨τ2 fM_thingSort 0 0, τ2 fM_thingAt 0 0, ?_, by omega, by omega, ?_⟩ (rKeep_trans Q4.2.2.2.2.2.2.1 n3.2.2.2.2.2.2.1) (by rw [n6 _ (by decide), k3, k2])
      · rw [eτ3, up_F (by decide), up_eq, w32_ok (x := τ2 fM_thingSort 0 0 * 10000) (by omega), w32_ok (by omega)]
      · rw [eτ3, up_eq]; exact c4
    · rw [n6 fR_placeFrom (by decide), t1]; have := e5 c1; omega
    · rw [n6 fR_placeTo (by decide), t2]; have := n8 z; rw [p3] at this; omega

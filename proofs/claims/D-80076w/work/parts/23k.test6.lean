/-! a test behind is, without a property -/
noncomputable def tlC (d : Nat) (σ : ga_S) (b now : Int) : Option ga_R := (c_r_takes d σ 15).bind fun q14 =>
  ga_01 q14.1 (if now = 0 then
    if (q14.2 fR_bad 0 0) = (-1) then
      (c_r_isPlace d (ga_up (ga_up q14.2 fR_isNot 0 0 q14.1) fR_behindFrom 0 0 (q14.2 fR_p 0 0))).bind fun q15 =>
        if q15.1 = 0 then
          r_testShape_507 d q15.2 b
        else
          (c_r_placeWords d (ga_up q15.2 fR_form 0 0 1)).bind fun q16 =>
            (c_r_thing d q16.2).bind fun q17 =>
              r_testShape_528 d (ga_up (ga_up (ga_up (ga_up q17.2 fR_placeFrom 0 0 (q17.2 fR_thingFrom 0 0)) fR_placeTo 0 0 (q17.2 fR_thingTo 0 0)) fR_thingFrom 0 0 (q16.2 fR_thingFrom 0 0)) fR_thingTo 0 0 (q16.2 fR_thingTo 0 0)) b
    else
      r_testShape_507 d (ga_up (ga_up q14.2 fR_isNot 0 0 q14.1) fR_behindFrom 0 0 (q14.2 fR_p 0 0)) b
  else
    r_testShape_507 d (ga_up (ga_up q14.2 fR_isNot 0 0 q14.1) fR_behindFrom 0 0 (q14.2 fR_p 0 0)) b)
noncomputable def tlM (d : Nat) (τ : ga_S) (now : Int) : Option ga_R := (c_m_isNext d τ 106).bind fun q5 =>
  ga_ck (τ fM_tCount 0 0) 1700 (ga_01 q5.1 (ga_ck (q5.2 fM_tCount 0 0) 1700 (if ((ga_up q5.2 fM_tNot 0 (τ fM_tCount 0 0) q5.1) fM_tNot 0 (q5.2 fM_tCount 0 0)) = 0 then
      m_test_240 d (ga_up q5.2 fM_tNot 0 (τ fM_tCount 0 0) q5.1) now 0 (q5.2 fM_at 0 0)
    else
      m_test_240 d (ga_up q5.2 fM_tNot 0 (τ fM_tCount 0 0) q5.1) now 1 (q5.2 fM_at 0 0))))
/-- what stands behind not, the component's -/
noncomputable def tlC2 (d : Nat) (σ : ga_S) (b now : Int) : Option ga_R := if now = 0 then
    if (σ fR_bad 0 0) = (-1) then
      (c_r_isPlace d σ).bind fun q15 =>
        if q15.1 = 0 then
          r_testShape_507 d q15.2 b
        else
          (c_r_placeWords d (ga_up q15.2 fR_form 0 0 1)).bind fun q16 =>
            (c_r_thing d q16.2).bind fun q17 =>
              r_testShape_528 d (ga_up (ga_up (ga_up (ga_up q17.2 fR_placeFrom 0 0 (q17.2 fR_thingFrom 0 0)) fR_placeTo 0 0 (q17.2 fR_thingTo 0 0)) fR_thingFrom 0 0 (q16.2 fR_thingFrom 0 0)) fR_thingTo 0 0 (q16.2 fR_thingTo 0 0)) b
    else
      r_testShape_507 d σ b
  else
    r_testShape_507 d σ b
noncomputable def tlM2 (d : Nat) (τ : ga_S) (now : Int) : Option ga_R := (c_m_isNext d τ 3).bind fun q11 =>
    if q11.1 = 0 then
      if now = 0 then
        ga_ck (q11.2 fM_tCount 0 0) 1700 ((c_m_placing d (ga_up q11.2 fM_tForm 0 (q11.2 fM_tCount 0 0) 4)).bind fun q12 =>
            ga_ck (q11.2 fM_tCount 0 0) 1700 ((c_m_thing d (ga_up q12.2 fM_tWay 0 (q11.2 fM_tCount 0 0) q12.1)).bind fun q13 =>
                ga_ck (q13.2 fM_tCount 0 0) 1700 (ga_ck (q13.2 fM_tCount 0 0) 1700 (m_test_351 d (ga_up (ga_up q13.2 fM_tOther 0 (q13.2 fM_tCount 0 0) (w32 (w32 (q13.2 fM_thingSort 0 0 * 10000) + q13.2 fM_thingAt 0 0))) fM_tOtherRun 0 (q13.2 fM_tCount 0 0) (q13.2 fM_thingRun 0 0)) now))))
      else
        (c_m_odd d q11.2).bind fun q14 =>
          m_test_351 d q14.2 now
    else
      ga_ck (q11.2 fM_tCount 0 0) 1700 ((c_m_run d (ga_up q11.2 fM_tForm 0 (q11.2 fM_tCount 0 0) 3)).bind fun q15 =>
          ga_ck (q11.2 fM_tCount 0 0) 1700 (m_test_351 d (ga_up q15.2 fM_tRun 0 (q11.2 fM_tCount 0 0) q15.1) now))
theorem r507_no {σ : ga_S} {d : Nat} (hd : 2 ≤ d) (hb : σ fR_bad 0 0 = -1) (hp : 0 ≤ σ fR_p 0 0 ∧ σ fR_p 0 0 < 5002) (hk : σ fT_kinds 0 (σ fR_p 0 0) ≠ 0) (b : Int) : r_testShape_507 d σ b = some (0, ga_up (ga_up σ fR_form 0 0 0) fR_bad 0 0 (σ fR_p 0 0)) := by
  obtain ⟨d, rfl⟩ : ∃ e, d = e + 1 := ⟨d - 1, by omega⟩
  have kk : (ga_up σ fR_form 0 0 0) fT_kinds = σ fT_kinds := up_F (by decide) ..
  rw [e_r_testShape_507, e_r_run, up_F (F' := fR_bad) (by decide), if_pos hb, up_F (F' := fR_p) (by decide), s_r_isFree (by omega) hp]
  simp only [Option.bind_some]
  rw [kk, decide_eq_false hk, if_pos b2i_f, e_r_run_19, s_r_wrong (by omega), up_F (F' := fR_bad) (by decide), if_pos hb, up_F (F' := fR_p) (by decide)]
  simp only [Option.bind_some]
  rw [show ga_up (ga_up (ga_up σ fR_form 0 0 0) fR_bad 0 0 (σ fR_p 0 0)) fR_runs 0 0 (σ fR_runs 0 0) = ga_up (ga_up σ fR_form 0 0 0) fR_bad 0 0 (σ fR_p 0 0) from up_id (by rw [up_F (by decide), up_F (by decide)])]
  exact s_r_528 (by omega) (by rw [up_eq]; omega) b
theorem r507_bad {σ : ga_S} {d : Nat} (hd : 2 ≤ d) (hb : σ fR_bad 0 0 ≠ -1) (b : Int) : r_testShape_507 d σ b = some (0, ga_up σ fR_form 0 0 0) := by
  have nb : (ga_up σ fR_form 0 0 0) fR_bad 0 0 ≠ -1 := by rw [up_F (by decide)]; exact hb
  rw [e_r_testShape_507, cb_run hd nb]
  simp only [Option.bind_some]
  rw [show ga_up (ga_up σ fR_form 0 0 0) fR_runs 0 0 (σ fR_runs 0 0) = ga_up σ fR_form 0 0 0 from up_id (by rw [up_F (by decide)])]
  exact s_r_528 (by omega) nb b
/-- the model's place where it is wrong already -/
theorem mb_plc {τ : ga_S} {d : Nat} (hd : 4 ≤ d) (hb : τ fM_isBad 0 0 = 1) (hj : 0 ≤ τ fM_tCount 0 0 ∧ τ fM_tCount 0 0 < 1700) (now w : Int) : ∃ τ', (c_m_thing d (ga_up τ fM_tWay 0 (τ fM_tCount 0 0) w)).bind (fun q13 => ga_ck (q13.2 fM_tCount 0 0) 1700 (ga_ck (q13.2 fM_tCount 0 0) 1700 (m_test_351 d (ga_up (ga_up q13.2 fM_tOther 0 (q13.2 fM_tCount 0 0) (w32 (w32 (q13.2 fM_thingSort 0 0 * 10000) + q13.2 fM_thingAt 0 0))) fM_tOtherRun 0 (q13.2 fM_tCount 0 0) (q13.2 fM_thingRun 0 0)) now))) = some (0, τ') ∧ fr [fM_thingSort, fM_thingRun, fM_thingAt, fM_tWay, fM_tOther, fM_tOtherRun, fM_tEnd, fM_tCount] τ τ' ∧ tKeep τ τ' (τ fM_tCount 0 0) ∧ τ' fM_tCount 0 0 = τ fM_tCount 0 0 + 1 := by
  obtain ⟨τ1, e1, e2⟩ := mb_thing (τ := ga_up τ fM_tWay 0 (τ fM_tCount 0 0) w) hd (by rw [up_F (by decide)]; exact hb)
  have j1 : τ1 fM_tCount 0 0 = τ fM_tCount 0 0 := by rw [e2 _ (by decide), up_F (by decide)]
  have b1 : τ1 fM_isBad 0 0 = 1 := by rw [e2 _ (by decide), up_F (by decide)]; exact hb
  rw [e1]
  simp only [Option.bind_some]
  rw [j1, ck_ok _ hj, ck_ok _ hj, mb_351 (by rw [up_F (by decide), up_F (by decide)]; exact b1) (by rw [up_F (by decide), up_F (by decide), j1]; exact hj)]
  refine ⟨_, rfl, ?_, ?_, ?_⟩
  · exact fr_trans (fr_trans (fr_u (by decide)) (fr_sub e2 (by decide))) (fr_trans (fr_trans (fr_trans (fr_u (by decide)) (fr_u (by decide))) (fr_u (by decide))) (fr_u (by decide)))
  · rw [up_F (F' := fM_tCount) (by decide), up_F (F' := fM_tCount) (by decide), j1]
    exact tKeep_trans (tKeep_trans tKeep_u (tKeep_f e2 (mem_no (by decide)))) (tKeep_trans (tKeep_trans (tKeep_trans tKeep_u tKeep_u) tKeep_u) (tKeep_f (L := [fM_tCount]) (fr_u (by decide)) (mem_no (by decide))))
  · rw [up_eq, up_F (by decide), up_F (by decide), j1]
/-- rows of what a test tells, apart from its thing -/
def rw1 (σ τ : ga_S) (f b j : Int) : Prop := (σ fR_form 0 0 = 0 ∧ τ fM_tForm 0 j = 3 ∧ rnR σ τ f (τ fM_tRun 0 j) (σ fR_behindFrom 0 0) b) ∨
     (σ fR_form 0 0 = 1 ∧ τ fM_tForm 0 j = 4 ∧ τ fM_tWay 0 j = σ fR_placeSort 0 0 ∧ thE σ τ f (σ fR_placeFrom 0 0) (σ fR_placeTo 0 0) (τ fM_tOther 0 j) (τ fM_tOtherRun 0 j))
theorem T_r1b {σ τ : ga_S} {f : Int} {N : Nat} (hE : ENV σ τ f N) (h : PR σ τ f N) (hJ : JR σ τ) {d : Nat} (hd : 6 ≤ d) {now b : Int} (hT : σ fR_bad 0 0 = -1 → toT (σ fT_kinds 0) now (σ fR_p 0 0) b) (hbf : σ fR_behindFrom 0 0 = σ fR_p 0 0) (hj : 0 ≤ τ fM_tCount 0 0 ∧ τ fM_tCount 0 0 < 1700) : ∃ σ' τ', tlC2 d σ b now = some (0, σ') ∧ tlM2 d τ now = some (0, τ') ∧ tsR σ σ' τ τ' f N b (τ fM_tCount 0 0) ∧ σ' fR_thingFrom 0 0 = σ fR_thingFrom 0 0 ∧ σ' fR_thingTo 0 0 = σ fR_thingTo 0 0 ∧ σ' fR_isNot = σ fR_isNot ∧ thK τ τ' ∧ τ' fM_tThingRun = τ fM_tThingRun ∧ τ' fM_tNot = τ fM_tNot ∧ (σ' fR_bad 0 0 = -1 → rw1 σ' τ' f b (τ fM_tCount 0 0) ∧ (σ' fR_form 0 0 = 1 → (σ fR_p 0 0 ≤ σ' fR_placeFrom 0 0 ∧ σ' fR_placeTo 0 0 ≤ b) ∧ now = 0)) := by
  have hf := hE.1
  have hN := hE.2.1
  have hR := h.1
  -- both are wrong at the place, or were so
  have wr : ∀ σ1 τ1 τ2, tlC2 d σ b now = some (0, σ1) → fr [fR_form, fR_p, fR_bad] σ σ1 → PR σ1 τ1 f N → σ1 fR_bad 0 0 ≠ -1 → tlM2 d τ now = some (0, τ2) → τ2 fM_at = τ1 fM_at → τ2 fM_isBad = τ1 fM_isBad → τ2 fM_badAt = τ1 fM_badAt → fr [fM_at, fM_isBad, fM_badAt, fM_tForm, fM_thingSort, fM_thingRun, fM_thingAt, fM_tWay, fM_tOther, fM_tOtherRun, fM_tEnd, fM_tCount] τ τ2 → tKeep τ τ2 (τ fM_tCount 0 0) → τ2 fM_tCount 0 0 = τ fM_tCount 0 0 + 1 → ∃ σ' τ', tlC2 d σ b now = some (0, σ') ∧ tlM2 d τ now = some (0, τ') ∧ tsR σ σ' τ τ' f N b (τ fM_tCount 0 0) ∧ σ' fR_thingFrom 0 0 = σ fR_thingFrom 0 0 ∧ σ' fR_thingTo 0 0 = σ fR_thingTo 0 0 ∧ σ' fR_isNot = σ fR_isNot ∧ thK τ τ' ∧ τ' fM_tThingRun = τ fM_tThingRun ∧ τ' fM_tNot = τ fM_tNot ∧ (σ' fR_bad 0 0 = -1 → rw1 σ' τ' f b (τ fM_tCount 0 0) ∧ (σ' fR_form 0 0 = 1 → (σ fR_p 0 0 ≤ σ' fR_placeFrom 0 0 ∧ σ' fR_placeTo 0 0 ≤ b) ∧ now = 0)) := by
    intro σ1 τ1 τ2 w1 w2 w3 w4 w5 w6 w7 w8 w9 w10 w11
    refine ⟨σ1, τ2, w1, w5, ⟨⟨PR_c w3 rfl rfl w6 w7 w8, JR_bad hJ (by rw [w2 _ (by decide)]) (by rw [w9 _ (by decide)]) w4, fr_sub w2 (by decide), fr_sub w9 (by decide), by rw [w2 _ (by decide)], rKeepC_eq (w2 _ (by decide)) (w2 _ (by decide)), rKeep_eq (w9 _ (by decide)) (w9 _ (by decide)) (w9 _ (by decide)), w10⟩, w11, fun z => absurd z w4⟩, by rw [w2 _ (by decide)], by rw [w2 _ (by decide)], w2 _ (by decide), ⟨w9 _ (by decide), w9 _ (by decide)⟩, w9 _ (by decide), w9 _ (by decide), fun z => absurd z w4⟩
  by_cases cb : σ fR_bad 0 0 = -1
  · have ok := h.2.resolve_right (fun z => by omega)
    by_cases c0 : σ fT_kinds 0 (σ fR_p 0 0) = 0
    · -- an adjective
      have pz : plS (σ fT_kinds 0 (σ fR_p 0 0)) = 0 := by rw [c0]; decide
      obtain ⟨σ', τ', e1, e2, e3, e4, e5, e6⟩ := T_507 hE h hJ (d := d) (by omega) hT hj
      refine ⟨σ', τ', ?_, ?_, e3, by rw [e4 _ (by decide)], by rw [e4 _ (by decide)], e4 _ (by decide), ⟨e5 _ (by decide), e5 _ (by decide)⟩, e5 _ (by decide), e5 _ (by decide), fun z => ⟨Or.inl ?_, fun y => ?_⟩⟩
      · unfold tlC2
        by_cases cn : now = 0
        · rw [if_pos cn, if_pos cb, s_r_isPlace (by omega) (by omega), decide_eq_false (by simp [pz])]
          simp only [Option.bind_some]
          rw [if_pos b2i_f, e1]
        · rw [if_neg cn, e1]
      · unfold tlM2
        rw [s_nx hE h (by omega) (c := 0) (by decide) (by omega), decide_eq_true ⟨cb, c0⟩]
        simp only [Option.bind_some]
        rw [if_neg b2i_n, ck_ok _ hj, e2]
      · have := e6 z
        rw [e4 fR_behindFrom (by decide), hbf]
        exact this
      · have := (e6 z).1
        omega
    · have m0 : tlM2 d τ now = (if now = 0 then
        ga_ck (τ fM_tCount 0 0) 1700 ((c_m_placing d (ga_up τ fM_tForm 0 (τ fM_tCount 0 0) 4)).bind fun q12 =>
            ga_ck (τ fM_tCount 0 0) 1700 ((c_m_thing d (ga_up q12.2 fM_tWay 0 (τ fM_tCount 0 0) q12.1)).bind fun q13 =>
                ga_ck (q13.2 fM_tCount 0 0) 1700 (ga_ck (q13.2 fM_tCount 0 0) 1700 (m_test_351 d (ga_up (ga_up q13.2 fM_tOther 0 (q13.2 fM_tCount 0 0) (w32 (w32 (q13.2 fM_thingSort 0 0 * 10000) + q13.2 fM_thingAt 0 0))) fM_tOtherRun 0 (q13.2 fM_tCount 0 0) (q13.2 fM_thingRun 0 0)) now))))
      else
        (c_m_odd d τ).bind fun q14 =>
          m_test_351 d q14.2 now) := by
        unfold tlM2
        rw [s_nx hE h (by omega) (c := 0) (by decide) (by omega), decide_eq_false (fun z => c0 z.2)]
        simp only [Option.bind_some]
        rw [if_pos b2i_f]
      have Pw : PR (ga_up σ fR_form 0 0 0) (ga_up τ fM_tForm 0 (τ fM_tCount 0 0) 4) f N := PR_c h (up_F (by decide) ..) (up_F (by decide) ..) (up_F (by decide) ..) (up_F (by decide) ..) (up_F (by decide) ..)
      by_cases cn : now = 0
      · by_cases cp : plS (σ fT_kinds 0 (σ fR_p 0 0)) = 0
        · -- neither an adjective nor a place
          obtain ⟨σ1, τ1, g1, g2, g3, g4, g5, g6⟩ := P_wrong Pw (d := d) (by omega)
          have g1' : σ1 = ga_up (ga_up σ fR_form 0 0 0) fR_bad 0 0 (σ fR_p 0 0) := by
            rw [s_r_wrong (by omega), up_F (F' := fR_bad) (by decide), if_pos cb, up_F (F' := fR_p) (by decide)] at g1
            exact (Prod.mk.inj (Option.some.inj g1)).2.symm
          have bad := (g3.2.resolve_left (fun z => g4 z.1)).2.2.1
          have j1 : τ1 fM_tCount 0 0 = τ fM_tCount 0 0 := by rw [g6 _ (by decide), up_F (by decide)]
          obtain ⟨τ2, n1, n2, n3, n4⟩ := mb_plc (τ := τ1) (d := d) (by omega) bad (by rw [j1]; exact hj) now 0
          rw [j1] at n1 n3 n4
          have hc : tlC2 d σ b now = some (0, σ1) := by
            unfold tlC2
            rw [if_pos cn, if_pos cb, s_r_isPlace (by omega) (by omega), decide_eq_false (by simp [cp])]
            simp only [Option.bind_some]
            rw [if_pos b2i_f, r507_no (by omega) cb (by omega) c0, g1']
          have hm : tlM2 d τ now = some (0, τ2) := by
            obtain ⟨d, rfl⟩ : ∃ e, d = e + 1 := ⟨d - 1, by omega⟩
            have E' : ENV σ (ga_up τ fM_tForm 0 (τ fM_tCount 0 0) 4) f N := ENV_c hE rfl (up_F (by decide) ..)
            have P' : PR σ (ga_up τ fM_tForm 0 (τ fM_tCount 0 0) 4) f N := PR_c h rfl rfl (up_F (by decide) ..) (up_F (by decide) ..) (up_F (by decide) ..)
            have g2' : c_m_odd d (ga_up τ fM_tForm 0 (τ fM_tCount 0 0) 4) = some (0, τ1) := by
              rw [s_m_odd (by omega)] at g2 ⊢; exact g2
            rw [m0, if_pos cn, ck_ok _ hj, s_m_placing E' P' cb (by omega), cp, e_m_placing_59, if_pos rfl, g2']
            simp only [Option.bind_some]
            rw [ck_ok _ hj]
            exact n1
          refine wr σ1 τ1 τ2 hc (by rw [g1']; exact fr_trans (fr_u (by decide)) (fr_u (by decide))) g3 g4 hm (n2 _ (by decide)) (n2 _ (by decide)) (n2 _ (by decide)) ?_ ?_ n4
          · exact fr_trans (fr_trans (fr_u (by decide)) (fr_sub g6 (by decide))) (fr_sub n2 (by decide))
          · exact tKeep_trans (tKeep_trans tKeep_u (tKeep_f g6 (mem_no (by decide)))) n3
        · -- a place
          obtain ⟨σ', τ', e1, e2, e3, e4, e5, e6, e7, e8, e9, e10⟩ := T_plc hE h hJ cb cp (d := d) (by omega) (hT cb) hj
          refine ⟨σ', τ', ?_, ?_, e3, e4, e5, e6, e7, e8, e9, fun z => ⟨Or.inr ⟨(e10 z).1, (e10 z).2.1, (e10 z).2.2.1, (e10 z).2.2.2.1⟩, fun _ => ⟨(e10 z).2.2.2.2, cn⟩⟩⟩
          · unfold tlC2
            rw [if_pos cn, if_pos cb, s_r_isPlace (by omega) (by omega), decide_eq_true cp]
            simp only [Option.bind_some]
            rw [if_neg b2i_n, e1]
          · rw [m0, if_pos cn, ck_ok _ hj, e2]
      · -- now: only an adjective may stand there
        have Pw' : PR (ga_up σ fR_form 0 0 0) τ f N := PR_c h (up_F (by decide) ..) (up_F (by decide) ..) rfl rfl rfl
        obtain ⟨σ1, τ1, g1, g2, g3, g4, g5, g6⟩ := P_wrong Pw' (d := d) (by omega)
        have g1' : σ1 = ga_up (ga_up σ fR_form 0 0 0) fR_bad 0 0 (σ fR_p 0 0) := by
          rw [s_r_wrong (by omega), up_F (F' := fR_bad) (by decide), if_pos cb, up_F (F' := fR_p) (by decide)] at g1
          exact (Prod.mk.inj (Option.some.inj g1)).2.symm
        have bad := (g3.2.resolve_left (fun z => g4 z.1)).2.2.1
        have j1 : τ1 fM_tCount 0 0 = τ fM_tCount 0 0 := by rw [g6 _ (by decide)]
        have hc : tlC2 d σ b now = some (0, σ1) := by
          unfold tlC2
          rw [if_neg cn, r507_no (by omega) cb (by omega) c0, g1']
        have hm : tlM2 d τ now = some (0, ga_up (ga_up τ1 fM_tEnd 0 (τ fM_tCount 0 0) (τ1 fM_at 0 0)) fM_tCount 0 0 (τ fM_tCount 0 0 + 1)) := by
          rw [m0, if_neg cn, g2]
          simp only [Option.bind_some]
          rw [mb_351 bad (by rw [j1]; exact hj), j1]
        refine wr σ1 τ1 _ hc (by rw [g1']; exact fr_trans (fr_u (by decide)) (fr_u (by decide))) g3 g4 hm (by rw [up_F (by decide), up_F (by decide)]) (by rw [up_F (by decide), up_F (by decide)]) (by rw [up_F (by decide), up_F (by decide)]) ?_ ?_ (up_eq ..)
        · exact fr_trans (fr_sub g6 (by decide)) (fr_trans (fr_u (by decide)) (fr_u (by decide)))
        · exact tKeep_trans (tKeep_f g6 (mem_no (by decide))) (tKeep_trans tKeep_u (tKeep_f (L := [fM_tCount]) (fr_u (by decide)) (mem_no (by decide))))
  · -- wrong before
    have bad := (h.2.resolve_left (fun z => cb z.1)).2.2.1
    have hc : tlC2 d σ b now = some (0, ga_up σ fR_form 0 0 0) := by
      unfold tlC2
      by_cases cn : now = 0
      · rw [if_pos cn, if_neg cb, r507_bad (by omega) cb]
      · rw [if_neg cn, r507_bad (by omega) cb]
    have P0 : PR (ga_up σ fR_form 0 0 0) τ f N := PR_c h (up_F (by decide) ..) (up_F (by decide) ..) rfl rfl rfl
    have nb : (ga_up σ fR_form 0 0 0) fR_bad 0 0 ≠ -1 := by rw [up_F (by decide)]; exact cb
    by_cases cn : now = 0
    · have bad' : (ga_up τ fM_tForm 0 (τ fM_tCount 0 0) 4) fM_isBad 0 0 = 1 := by rw [up_F (by decide)]; exact bad
      have j1 : (ga_up τ fM_tForm 0 (τ fM_tCount 0 0) 4) fM_tCount 0 0 = τ fM_tCount 0 0 := by rw [up_F (by decide)]
      obtain ⟨τ2, n1, n2, n3, n4⟩ := mb_plc (τ := ga_up τ fM_tForm 0 (τ fM_tCount 0 0) 4) (d := d) (by omega) bad' (by rw [j1]; exact hj) now 0
      rw [j1] at n1 n3 n4
      have hm : tlM2 d τ now = some (0, τ2) := by
        unfold tlM2
        rw [mb_isNext (by omega) bad]
        simp only [Option.bind_some]
        rw [if_pos trivial, if_pos cn, ck_ok _ hj, mb_placing (by omega) bad']
        simp only [Option.bind_some]
        rw [ck_ok _ hj]
        exact n1
      refine wr _ τ τ2 hc (fr_u (by decide)) P0 nb hm ?_ ?_ ?_ ?_ ?_ n4
      · rw [n2 _ (by decide), up_F (by decide)]
      · rw [n2 _ (by decide), up_F (by decide)]
      · rw [n2 _ (by decide), up_F (by decide)]
      · exact fr_trans (fr_u (by decide)) (fr_sub n2 (by decide))
      · exact tKeep_trans tKeep_u n3
    · have hm : tlM2 d τ now = some (0, ga_up (ga_up τ fM_tEnd 0 (τ fM_tCount 0 0) (τ fM_at 0 0)) fM_tCount 0 0 (τ fM_tCount 0 0 + 1)) := by
        unfold tlM2
        rw [mb_isNext (by omega) bad]
        simp only [Option.bind_some]
        rw [if_pos trivial, if_neg cn, mb_odd (by omega) bad]
        simp only [Option.bind_some]
        rw [mb_351 bad hj]
      refine wr _ τ _ hc (fr_u (by decide)) P0 nb hm (by rw [up_F (by decide), up_F (by decide)]) (by rw [up_F (by decide), up_F (by decide)]) (by rw [up_F (by decide), up_F (by decide)]) ?_ ?_ (up_eq ..)
      · exact fr_trans (fr_u (by decide)) (fr_u (by decide))
      · exact tKeep_trans tKeep_u (tKeep_f (L := [fM_tCount]) (fr_u (by decide)) (mem_no (by decide)))

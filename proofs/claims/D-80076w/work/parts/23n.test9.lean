/-- a block at a greater depth -/
theorem go_mono {d e : Nat} {M : ga_M} {pc : Nat} {L : ga_L} {st : List ga_V} {σ : ga_S} {r : ga_R} (h : ga_go am_G (am_run d) M pc L st σ = some r) (hd : d ≤ e) : ga_go am_G (am_run e) M pc L st σ = some r := mo_go (fun _ _ _ _ hq => am_mono hq hd) h
/-- what a property is told to be -/
theorem T_383 {σ τ : ga_S} {f : Int} {N : Nat} (hE : ENV σ τ f N) (h : PR σ τ f N) (hJ : JR σ τ) (hb : σ fR_bad 0 0 = -1) {d : Nat} (hd : 3 ≤ d) {now b : Int} (hT : toT (σ fT_kinds 0) now (σ fR_p 0 0) b) (hj : 0 ≤ τ fM_tCount 0 0 ∧ τ fM_tCount 0 0 < 1700) (t : Bool) (hF : σ fR_form 0 0 = 2) (hF2 : τ fM_tForm 0 (τ fM_tCount 0 0) = 0) : ∃ σ' τ', r_testShape_383 d σ b (b2i t) = some (0, σ') ∧ (c_m_what d (ga_up τ fM_tNot 0 (τ fM_tCount 0 0) (b2i t))).bind (fun q7 => ga_ck (q7.2 fM_tCount 0 0) 1700 (ga_ck (q7.2 fM_tCount 0 0) 1700 (m_test_351 d (ga_up (ga_up q7.2 fM_tWhat 0 (q7.2 fM_tCount 0 0) (q7.2 fM_what 0 0)) fM_tOtherRun 0 (q7.2 fM_tCount 0 0) (w32 (q7.2 fM_runs 0 0 - 1))) now))) = some (0, τ') ∧ tsR σ σ' τ τ' f N b (τ fM_tCount 0 0) ∧ fr tqL σ σ' ∧ fr tqN τ τ' ∧ (σ' fR_bad 0 0 = -1 → nE (τ' fM_tNot 0 (τ fM_tCount 0 0)) (σ' fR_isNot 0 0) ∧ rw2 σ' τ' f b (τ fM_tCount 0 0) ∧ σ' fR_form 0 0 = 2) := by
  have hf := hE.1
  have hN := hE.2.1
  have hR := h.1
  obtain ⟨j, ej⟩ : ∃ j, j = τ fM_tCount 0 0 := ⟨_, rfl⟩
  rw [← ej] at hj hF2 ⊢
  obtain ⟨σ1, eσ1⟩ : ∃ x, x = ga_up (ga_up σ fR_isNot 0 0 (b2i t)) fR_behindFrom 0 0 (σ fR_p 0 0) := ⟨_, rfl⟩
  have Q1 : tsQ σ σ1 τ (ga_up τ fM_tNot 0 j (b2i t)) f N j := by
    rw [eσ1]
    exact tsQ_up h hJ (LC := [fR_isNot, fR_behindFrom]) (LM := [fM_tNot]) (fr_trans (fr_u (by decide)) (fr_u (by decide))) (fr_u (by decide)) (by decide) (by decide) tKeep_u
  have E1 := tsQ_E Q1 hE
  have p1 : σ1 fR_p = σ fR_p := by rw [eσ1, up_F (by decide), up_F (by decide)]
  have b1 : σ1 fR_bad = σ fR_bad := by rw [eσ1, up_F (by decide), up_F (by decide)]
  have k1 : σ1 fT_kinds = σ fT_kinds := by rw [eσ1, up_F (by decide), up_F (by decide)]
  have r1 : σ1 fR_runs = σ fR_runs := by rw [eσ1, up_F (by decide), up_F (by decide)]
  obtain ⟨σ2, τ2, a1, a2, Q2, a3, a4, a5, a6⟩ := T_what E1 Q1.1 Q1.2.1 (by rw [b1]; exact hb) (d := d) hd j
  rw [p1, k1, r1] at a6
  rw [r1] at Q2
  rw [p1] at a5
  have j2 : τ2 fM_tCount 0 0 = j := by rw [a4 _ (by decide), up_F (by decide)]; exact ej.symm
  obtain ⟨σ3, eσ3⟩ : ∃ x, x = ga_up σ2 fR_runs 0 0 (σ fR_runs 0 0) := ⟨_, rfl⟩
  rw [← eσ3] at Q2 a6
  have E2 := tsQ_E Q2 E1
  have hJ2 := Q2.2.1
  obtain ⟨τ3, eτ3⟩ : ∃ x, x = ga_up (ga_up τ2 fM_tWhat 0 j (τ2 fM_what 0 0)) fM_tOtherRun 0 j (τ2 fM_runs 0 0 - 1) := ⟨_, rfl⟩
  have Q3 : tsQ σ3 σ3 τ2 τ3 f N j := by
    rw [eτ3]
    exact tsQ_up Q2.1 Q2.2.1 (LC := []) (LM := [fM_tWhat, fM_tOtherRun]) (fr_refl _ _) (fr_trans (fr_u (by decide)) (fr_u (by decide))) (by decide) (by decide) (tKeep_trans tKeep_u tKeep_u)
  have E3 := tsQ_E Q3 E2
  have b3 : σ3 fR_bad = σ2 fR_bad := by rw [eσ3, up_F (by decide)]
  have p3 : σ3 fR_p = σ2 fR_p := by rw [eσ3, up_F (by decide)]
  have k3 : σ3 fT_kinds = σ fT_kinds := by rw [eσ3, up_F (by decide), a3 _ (by decide), k1]
  have j3 : τ3 fM_tCount 0 0 = j := by rw [eτ3, up_F (by decide), up_F (by decide)]; exact j2
  have T3 : σ3 fR_bad 0 0 = -1 → toT (σ3 fT_kinds 0) now (σ3 fR_p 0 0) b := by
    intro z
    rw [b3] at z
    obtain ⟨z1, z2, z3⟩ := a6 z
    rw [k3, p3]
    exact toT_mv hT (by omega) (fun q x y => z2 q x y now)
  obtain ⟨σ', τ', n1, n2, ⟨n3, n4, n5⟩, n6, n7, n8⟩ := T_fin E3 Q3.1 Q3.2.1 (d := d) (by omega) T3 (by rw [j3]; exact hj)
  rw [j3] at n3 n4
  have hr2 : -1 ≤ τ2 fM_runs 0 0 - 1 ∧ τ2 fM_runs 0 0 - 1 ≤ 2600 := by
    have := JR_b hJ2
    omega
  refine ⟨σ', τ', ?_, ?_, ⟨tsQ_trans Q1 (tsQ_trans Q2 (tsQ_trans Q3 n3)), n4, fun z => ⟨hb, (n5 z).2⟩⟩, ?_, ?_, fun z => ⟨?_, Or.inl ?_, ?_⟩⟩
  · rw [e_r_testShape_383, z1_ok _ (b2i_01 t), ← eσ1, a1]
    simp only [Option.bind_some]
    rw [← eσ3]
    exact n1
  · rw [a2]
    simp only [Option.bind_some]
    rw [j2, ck_ok _ hj, ck_ok _ hj, w32_ok (by omega), ← eτ3]
    exact n2
  · rw [eσ3] at n6
    rw [eσ1] at a3
    exact fr_trans (fr_trans (fr_u (by decide)) (fr_u (by decide))) (fr_trans (fr_sub a3 (by decide)) (fr_trans (fr_u (by decide)) (fr_sub n6 (by decide))))
  · rw [eτ3] at n7
    exact fr_trans (fr_u (by decide)) (fr_trans (fr_sub a4 (by decide)) (fr_trans (fr_trans (fr_u (by decide)) (fr_u (by decide))) (fr_sub n7 (by decide))))
  · unfold nE
    rw [n7 _ (by decide), eτ3, up_F (by decide), up_F (by decide), a4 _ (by decide), up_eq, n6 _ (by decide), eσ3, up_F (by decide), a3 _ (by decide), eσ1, up_F (by decide), up_eq]
    exact ⟨rfl, b2i_01 t⟩
  · have z3 := (n5 z).1
    rw [b3] at z3
    obtain ⟨y1, y2, y3⟩ := a6 z3
    have pb := n8 z
    rw [p3] at pb
    have hbf : σ' fR_behindFrom 0 0 = σ fR_p 0 0 := by rw [n6 _ (by decide), eσ3, up_F (by decide), a3 _ (by decide), eσ1, up_eq]
    have kk : σ' fT_kinds = σ fT_kinds := (n6 _ (by decide)).trans k3
    refine ⟨?_, ?_, ?_, ?_⟩
    · rw [n6 _ (by decide), eσ3, up_F (by decide), a3 _ (by decide), eσ1, up_F (by decide), up_F (by decide)]; exact hF
    · rw [n7 _ (by decide), eτ3, up_F (by decide), up_F (by decide), a4 _ (by decide), up_F (by decide)]; exact hF2
    · rw [n7 _ (by decide), eτ3, up_F (by decide), up_eq, hbf]; exact a5
    · rw [hbf, kk, n7 fM_tOtherRun (by decide), eτ3, up_eq]
      rcases y3 with y3 | y3
      · exact Or.inl ⟨y3.1, by omega⟩
      · right
        rw [pb] at y3
        have := rnR_keep y3 (rKeep_trans Q3.2.2.2.2.2.2.1 n3.2.2.2.2.2.2.1) (show σ' fT_kinds = σ3 fT_kinds from n6 _ (by decide))
        exact this
  · rw [n6 _ (by decide), eσ3, up_F (by decide), a3 _ (by decide), eσ1, up_F (by decide), up_F (by decide)]; exact hF
/-- what stands behind is, with a property -/
theorem T_r2 {σ τ : ga_S} {f : Int} {N : Nat} (hE : ENV σ τ f N) (h : PR σ τ f N) (hJ : JR σ τ) {d : Nat} (hd : 4 ≤ d) {now b : Int} (hnow : now = 0 ∨ now = 1) (hT : σ fR_bad 0 0 = -1 → toT (σ fT_kinds 0) now (σ fR_p 0 0) b) (hj : 0 ≤ τ fM_tCount 0 0 ∧ τ fM_tCount 0 0 < 1700) (hn : τ fM_tNot 0 (τ fM_tCount 0 0) = 0) (hn2 : σ fR_isNot 0 0 = 0) : ∃ σ' τ', tqC d σ b now = some (0, σ') ∧ tqM d τ now = some (0, τ') ∧ tsR σ σ' τ τ' f N b (τ fM_tCount 0 0) ∧ fr tqL σ σ' ∧ fr tqN τ τ' ∧ (σ' fR_bad 0 0 = -1 → nE (τ' fM_tNot 0 (τ fM_tCount 0 0)) (σ' fR_isNot 0 0) ∧ rw2 σ' τ' f b (τ fM_tCount 0 0) ∧ (σ' fR_form 0 0 = 3 → now = 0)) := by
  have hf := hE.1
  have hN := hE.2.1
  have hR := h.1
  obtain ⟨d, rfl⟩ : ∃ e, d = e + 1 := ⟨d - 1, by omega⟩
  obtain ⟨j, ej⟩ : ∃ j, j = τ fM_tCount 0 0 := ⟨_, rfl⟩
  by_cases cb : σ fR_bad 0 0 = -1
  · have ok := h.2.resolve_right (fun z => by omega)
    have hT := hT cb
    by_cases cc : now = 0 ∧ (σ fT_kinds 0 (σ fR_p 0 0) = 60 ∨ σ fT_kinds 0 (σ fR_p 0 0) = 61)
    · -- compared
      obtain ⟨cn, cc⟩ := cc
      subst cn
      obtain ⟨s, hs⟩ : ∃ s : Int, (σ fT_kinds 0 (σ fR_p 0 0) = 60 ∧ s = 1 ∨ σ fT_kinds 0 (σ fR_p 0 0) = 61 ∧ s = 2) := by
        rcases cc with c | c
        · exact ⟨1, Or.inl ⟨c, rfl⟩⟩
        · exact ⟨2, Or.inr ⟨c, rfl⟩⟩
      obtain ⟨σ', τ', e1, e2, e3, e4, e5, e6, e7, e8⟩ := T_cmp hE h hJ cb (d := d) (by omega) hT hj rfl hs hn
      have e1' : r_testShape_316 (d + 1) σ b = some (0, σ') := go_mono e1 (by omega)
      obtain ⟨q9, x1, x2⟩ := Option.bind_eq_some_iff.mp e2
      have x2' : m_test_351 (d + 1) q9.2 0 = some (0, τ') := go_mono x2 (by omega)
      refine ⟨σ', τ', ?_, ?_, e3, e4, e5, fun z => ⟨by unfold nE; rw [e7, hn, e6, hn2]; exact ⟨rfl, Or.inl rfl⟩, e8 z, fun _ => rfl⟩⟩
      · unfold tqC
        rw [if_pos rfl, s_r_is (by omega) (by omega)]
        simp only [Option.bind_some]
        by_cases c : σ fT_kinds 0 (σ fR_p 0 0) = 60
        · rw [decide_eq_true c, if_neg b2i_n, e1']
        · rw [decide_eq_false c, if_pos b2i_f, s_r_is (by omega) (by omega)]
          simp only [Option.bind_some]
          rw [decide_eq_true (by omega), if_neg b2i_n, e1']
      · unfold tqM
        have m47 : c_m_testedWhat (d + 1) τ 0 = m_testedWhat_47 d τ s (τ fM_tCount 0 0) := by
          have m24 : m_testedWhat_24 d τ = m_testedWhat_47 d τ s (τ fM_tCount 0 0) := by
            rw [e_m_testedWhat_24, s_nx hE h (by omega) (c := 60) (by decide) (by omega)]
            simp only [Option.bind_some]
            by_cases c : σ fT_kinds 0 (σ fR_p 0 0) = 60
            · rw [decide_eq_true ⟨cb, c⟩, if_neg b2i_n, show s = 1 by omega]
            · rw [decide_eq_false (fun z => c z.2), if_pos b2i_f, show s = 2 by omega]
          rw [e_m_testedWhat, if_pos rfl, s_nx hE h (by omega) (c := 60) (by decide) (by omega)]
          simp only [Option.bind_some]
          by_cases c : σ fT_kinds 0 (σ fR_p 0 0) = 60
          · rw [decide_eq_true ⟨cb, c⟩, if_neg b2i_n, m24]
          · rw [decide_eq_false (fun z => c z.2), if_pos b2i_f, s_nx hE h (by omega) (c := 61) (by decide) (by omega)]
            simp only [Option.bind_some]
            rw [decide_eq_true (show σ fR_bad 0 0 = -1 ∧ σ fT_kinds 0 (σ fR_p 0 0) = 61 from ⟨cb, by omega⟩), if_neg b2i_n, m24]
        rw [m47, x1]
        simp only [Option.bind_some]
        exact x2'
    · -- told
      have m84 : c_m_testedWhat (d + 1) τ now = m_testedWhat_84 d τ now := by
        rw [e_m_testedWhat]
        by_cases cn : now = 0
        · have n60 : ¬ (σ fR_bad 0 0 = -1 ∧ σ fT_kinds 0 (σ fR_p 0 0) = 60) := fun z => cc ⟨cn, Or.inl z.2⟩
          have n61 : ¬ (σ fR_bad 0 0 = -1 ∧ σ fT_kinds 0 (σ fR_p 0 0) = 61) := fun z => cc ⟨cn, Or.inr z.2⟩
          rw [if_pos cn, s_nx hE h (by omega) (c := 60) (by decide) (by omega), decide_eq_false n60]
          simp only [Option.bind_some]
          rw [if_pos b2i_f, s_nx hE h (by omega) (c := 61) (by decide) (by omega), decide_eq_false n61]
          simp only [Option.bind_some]
          rw [if_pos b2i_f]
        · rw [if_neg cn]
      have c358 : tqC (d + 1) σ b now = r_testShape_358 (d + 1) σ b now := by
        unfold tqC
        by_cases cn : now = 0
        · have n60 : ¬ σ fT_kinds 0 (σ fR_p 0 0) = 60 := fun z => cc ⟨cn, Or.inl z⟩
          have n61 : ¬ σ fT_kinds 0 (σ fR_p 0 0) = 61 := fun z => cc ⟨cn, Or.inr z⟩
          rw [if_pos cn, s_r_is (by omega) (by omega), decide_eq_false n60]
          simp only [Option.bind_some]
          rw [if_pos b2i_f, s_r_is (by omega) (by omega), decide_eq_false n61]
          simp only [Option.bind_some]
          rw [if_pos b2i_f]
        · rw [if_neg cn]
      -- behind not, or without it
      have go : ∀ (t : Bool) (σ1 : ga_S), r_testShape_358 (d + 1) σ b now = r_testShape_383 (d + 1) σ1 b (b2i t) → m_testedWhat_84 d τ now = m_testedWhat_120 d (ga_up τ fM_tForm 0 (τ fM_tCount 0 0) 0) (b2i t) (τ fM_tCount 0 0) → fr [fR_form, fR_p] σ σ1 → σ1 fR_form 0 0 = 2 → PR σ1 (ga_up (ga_up τ fM_at 0 0 (τ fM_at 0 0 + b2i t)) fM_tForm 0 (τ fM_tCount 0 0) 0) f N → JR σ1 (ga_up (ga_up τ fM_at 0 0 (τ fM_at 0 0 + b2i t)) fM_tForm 0 (τ fM_tCount 0 0) 0) → toT (σ1 fT_kinds 0) now (σ1 fR_p 0 0) b → ∃ σ' τ', tqC (d + 1) σ b now = some (0, σ') ∧ tqM (d + 1) τ now = some (0, τ') ∧ tsR σ σ' τ τ' f N b (τ fM_tCount 0 0) ∧ fr tqL σ σ' ∧ fr tqN τ τ' ∧ (σ' fR_bad 0 0 = -1 → nE (τ' fM_tNot 0 (τ fM_tCount 0 0)) (σ' fR_isNot 0 0) ∧ rw2 σ' τ' f b (τ fM_tCount 0 0) ∧ (σ' fR_form 0 0 = 3 → now = 0)) := by
        intro t σ1 h1 h2 f1 hF P1 J1 T1
        obtain ⟨τ1, eτ1⟩ : ∃ x, x = ga_up (ga_up τ fM_at 0 0 (τ fM_at 0 0 + b2i t)) fM_tForm 0 (τ fM_tCount 0 0) 0 := ⟨_, rfl⟩
        rw [← eτ1] at P1 J1
        have m1 : fr [fM_at, fM_tForm] τ τ1 := by rw [eτ1]; exact fr_trans (fr_u (by decide)) (fr_u (by decide))
        have j1 : τ1 fM_tCount 0 0 = τ fM_tCount 0 0 := by rw [m1 _ (by decide)]
        have Q1 : tsQ σ σ1 τ τ1 f N (τ fM_tCount 0 0) := ⟨P1, J1, fr_sub f1 (by decide), fr_sub m1 (by decide), by rw [f1 _ (by decide)], rKeepC_eq (f1 _ (by decide)) (f1 _ (by decide)), rKeep_eq (m1 _ (by decide)) (m1 _ (by decide)) (m1 _ (by decide)), by rw [eτ1]; exact tKeep_trans (tKeep_f (L := [fM_at]) (fr_u (by decide)) (mem_no (by decide))) tKeep_u⟩
        have E1 := tsQ_E Q1 hE
        obtain ⟨σ', τ', e1, e2, ⟨e3, e3a, e3b⟩, e4, e5, e6⟩ := T_383 E1 P1 J1 (by rw [f1 _ (by decide)]; exact cb) (d := d) (by omega) T1 (by rw [j1]; exact hj) t hF (by rw [j1, eτ1, up_eq])
        rw [j1] at e2 e3 e3a e6
        have e1' : r_testShape_383 (d + 1) σ1 b (b2i t) = some (0, σ') := go_mono e1 (by omega)
        obtain ⟨q7, x1, x2⟩ := Option.bind_eq_some_iff.mp e2
        have hj7 : q7.2 fM_tCount 0 0 = τ fM_tCount 0 0 := by
          obtain ⟨σx, τx, y1, y2, _, _, y4, _⟩ := T_what (σ := σ1) (τ := ga_up τ1 fM_tNot 0 (τ fM_tCount 0 0) (b2i t)) (ENV_c E1 rfl (up_F (by decide) ..)) (PR_c P1 rfl rfl (up_F (by decide) ..) (up_F (by decide) ..) (up_F (by decide) ..)) (JR_mv J1 rfl (by rw [up_F (by decide)]) rfl (fun z => ⟨z, Or.inl rfl⟩)) (by rw [f1 _ (by decide)]; exact cb) (d := d) (by omega) 0
          rw [y2] at x1
          rw [← Option.some.inj x1]
          show τx fM_tCount 0 0 = _
          rw [y4 _ (by decide), up_F (by decide)]; exact j1
        rw [hj7, ck_ok _ hj, ck_ok _ hj] at x2
        have x2' : m_test_351 (d + 1) (ga_up (ga_up q7.2 fM_tWhat 0 (τ fM_tCount 0 0) (q7.2 fM_what 0 0)) fM_tOtherRun 0 (τ fM_tCount 0 0) (w32 (q7.2 fM_runs 0 0 - 1))) now = some (0, τ') := go_mono x2 (by omega)
        refine ⟨σ', τ', by rw [c358, h1]; exact e1', ?_, ⟨tsQ_trans Q1 e3, e3a, fun z => ⟨cb, (e3b z).2⟩⟩, fr_trans (fr_sub f1 (by decide)) e4, fr_trans (fr_sub m1 (by decide)) e5, fun z => ⟨(e6 z).1, (e6 z).2.1, fun y => absurd y (by rw [(e6 z).2.2]; decide)⟩⟩
        unfold tqM
        rw [m84, h2, e_m_testedWhat_120, ck_ok _ hj, z1_ok _ (b2i_01 t), up_F (F' := fM_tCount) (by decide), ck_ok _ hj, up_eq]
        have st : ga_up (ga_up (ga_up τ fM_tForm 0 (τ fM_tCount 0 0) 0) fM_tNot 0 (τ fM_tCount 0 0) (b2i t)) fM_at 0 0 (τ fM_at 0 0 + b2i t) = ga_up τ1 fM_tNot 0 (τ fM_tCount 0 0) (b2i t) := by
          rw [eτ1, up_comm (F := fM_tNot) (F' := fM_at) (by decide), up_comm (F := fM_tForm) (F' := fM_at) (by decide)]
        have fin : ∀ s : Int, s = b2i t → (m_testedWhat_143 d (ga_up (ga_up τ fM_tForm 0 (τ fM_tCount 0 0) 0) fM_tNot 0 (τ fM_tCount 0 0) (b2i t)) s ((ga_up τ fM_tForm 0 (τ fM_tCount 0 0) 0) fM_at 0 0)).bind (fun q9 => m_test_351 (d + 1) q9.2 now) = some (0, τ') := by
          intro s hs
          have r01 := b2i_01 t
          rw [e_m_testedWhat_143, up_F (F' := fM_at) (by decide), w32_ok (by omega), hs, st, x1]
          simp only [Option.bind_some]
          rw [hj7, ck_ok _ hj, ck_ok _ hj]
          simp only [Option.bind_some]
          exact x2'
        cases t with
        | true => rw [if_neg b2i_n]; exact fin 1 rfl
        | false => rw [if_pos b2i_f]; exact fin 0 rfl
      have Pf : PR (ga_up σ fR_form 0 0 2) τ f N := PR_c h (up_F (by decide) ..) (up_F (by decide) ..) rfl rfl rfl
      have Ef : ENV (ga_up σ fR_form 0 0 2) τ f N := ENV_c hE (up_F (by decide) ..) rfl
      have kf : (ga_up σ fR_form 0 0 2) fT_kinds = σ fT_kinds := up_F (by decide) ..
      have bf : (ga_up σ fR_form 0 0 2) fR_bad = σ fR_bad := up_F (by decide) ..
      have pf : (ga_up σ fR_form 0 0 2) fR_p = σ fR_p := up_F (by decide) ..
      have t1 := s_r_takes Ef Pf (d := d + 1) (by omega) 15
      rw [kf, bf, pf] at t1
      have P0 : PR σ (ga_up τ fM_tForm 0 (τ fM_tCount 0 0) 0) f N := PR_c h rfl rfl (up_F (by decide) ..) (up_F (by decide) ..) (up_F (by decide) ..)
      have E0 : ENV σ (ga_up τ fM_tForm 0 (τ fM_tCount 0 0) 0) f N := ENV_c hE rfl (up_F (by decide) ..)
      have t2 := s_nx E0 P0 (d := d) (by omega) (c := 15) (m := 106) (by decide) (by omega)
      have e0 : ga_up τ fM_at 0 0 (τ fM_at 0 0 + b2i false) = τ := up_id (by rw [b2i_f]; omega)
      have no : r_testShape_358 (d + 1) σ b now = r_testShape_383 (d + 1) (ga_up σ fR_form 0 0 2) b 0 → m_testedWhat_84 d τ now = m_testedWhat_120 d (ga_up τ fM_tForm 0 (τ fM_tCount 0 0) 0) 0 (τ fM_tCount 0 0) → ∃ σ' τ', tqC (d + 1) σ b now = some (0, σ') ∧ tqM (d + 1) τ now = some (0, τ') ∧ tsR σ σ' τ τ' f N b (τ fM_tCount 0 0) ∧ fr tqL σ σ' ∧ fr tqN τ τ' ∧ (σ' fR_bad 0 0 = -1 → nE (τ' fM_tNot 0 (τ fM_tCount 0 0)) (σ' fR_isNot 0 0) ∧ rw2 σ' τ' f b (τ fM_tCount 0 0) ∧ (σ' fR_form 0 0 = 3 → now = 0)) := by
        intro h1 h2
        refine go false (ga_up σ fR_form 0 0 2) h1 h2 (fr_u (by decide)) (up_eq ..) ?_ ?_ (by rw [kf, pf]; exact hT)
        · rw [e0]; exact PR_c h pf bf (up_F (by decide) ..) (up_F (by decide) ..) (up_F (by decide) ..)
        · rw [e0]; exact JR_mv hJ (by rw [up_F (by decide)]) (by rw [up_F (by decide)]) kf (fun z => by rw [bf] at z; rw [pf]; exact ⟨z, Or.inl rfl⟩)
      by_cases cn : now = 0
      · by_cases c : σ fT_kinds 0 (σ fR_p 0 0) = 15
        · rw [decide_eq_true ⟨cb, c⟩] at t1 t2
          rw [if_pos ⟨cb, c⟩] at t1
          obtain ⟨P1, lt, ea⟩ := PR_1 hE h ⟨cb, c⟩ (by omega) (by omega)
          refine go true (ga_up (ga_up σ fR_form 0 0 2) fR_p 0 0 (σ fR_p 0 0 + 1)) ?_ ?_ (fr_trans (fr_u (by decide)) (fr_u (by decide))) (by rw [up_F (by decide), up_eq]) ?_ ?_ ?_
          · rw [e_r_testShape_358, if_pos cn, t1]
            simp only [Option.bind_some]
            rw [if_neg b2i_n]; rfl
          · rw [e_m_testedWhat_84, ck_ok _ hj, if_pos cn, t2]
            simp only [Option.bind_some]
            rw [if_neg b2i_n]; rfl
          · refine PR_c P1 ?_ ?_ ?_ ?_ ?_
            · funext x y; rw [up_nat, up_nat, up_F (by decide)]
            · rw [up_F (by decide), up_F (by decide), up_F (by decide)]
            · rw [up_F (by decide)]; rfl
            · rw [up_F (by decide)]; rfl
            · rw [up_F (by decide)]; rfl
          · refine JR_mv hJ (by rw [up_F (by decide), up_F (by decide)]) (by rw [up_F (by decide), up_F (by decide)]) (by rw [up_F (by decide), up_F (by decide)]) (fun _ => ⟨cb, Or.inr (by rw [up_eq]; omega)⟩)
          · rw [up_F (F' := fT_kinds) (by decide), kf, up_eq]
            exact toT_step hT (by rw [c]; unfold endT; omega)
        · rw [decide_eq_false (fun z => c z.2)] at t1 t2
          rw [if_neg (fun z => c z.2)] at t1
          refine no ?_ ?_
          · rw [e_r_testShape_358, if_pos cn, t1]
            simp only [Option.bind_some]
            rw [if_pos b2i_f, e_r_testShape_382]
          · rw [e_m_testedWhat_84, ck_ok _ hj, if_pos cn, t2]
            simp only [Option.bind_some]
            rw [if_pos b2i_f, e_m_testedWhat_119]
      · refine no ?_ ?_
        · rw [e_r_testShape_358, if_neg cn, e_r_testShape_382]
        · rw [e_m_testedWhat_84, ck_ok _ hj, if_neg cn, e_m_testedWhat_119]
  · -- wrong before
    have bad := (h.2.resolve_left (fun z => cb z.1)).2.2.1
    have fin : ∀ σ', tqC (d + 1) σ b now = some (0, σ') → fr tqL σ σ' → σ' fR_bad = σ fR_bad → (0 ≤ σ' fR_p 0 0 ∧ σ' fR_p 0 0 ≤ N) → σ' fR_runs 0 0 = σ fR_runs 0 0 → σ' fR_runFrom = σ fR_runFrom → σ' fR_runTo = σ fR_runTo → ∃ σ' τ', tqC (d + 1) σ b now = some (0, σ') ∧ tqM (d + 1) τ now = some (0, τ') ∧ tsR σ σ' τ τ' f N b (τ fM_tCount 0 0) ∧ fr tqL σ σ' ∧ fr tqN τ τ' ∧ (σ' fR_bad 0 0 = -1 → nE (τ' fM_tNot 0 (τ fM_tCount 0 0)) (σ' fR_isNot 0 0) ∧ rw2 σ' τ' f b (τ fM_tCount 0 0) ∧ (σ' fR_form 0 0 = 3 → now = 0)) := by
      intro σ' h1 h2 h3 h4 h5 h6 h7
      obtain ⟨τ1, eτ1⟩ : ∃ x, x = ga_up (ga_up (ga_up τ fM_tForm 0 (τ fM_tCount 0 0) 0) fM_tNot 0 (τ fM_tCount 0 0) 0) fM_at 0 0 (τ fM_at 0 0) := ⟨_, rfl⟩
      have b1 : τ1 fM_isBad 0 0 = 1 := by rw [eτ1, up_F (by decide), up_F (by decide), up_F (by decide)]; exact bad
      have j1 : τ1 fM_tCount 0 0 = τ fM_tCount 0 0 := by rw [eτ1, up_F (by decide), up_F (by decide), up_F (by decide)]
      have m0 : fr [fM_tForm, fM_tNot] τ τ1 := by
        intro F hF
        by_cases c : F = fM_at
        · subst c
          funext x y
          rw [eτ1, up_nat]
          by_cases c2 : x = 0 ∧ y = 0
          · rw [if_pos c2, c2.1, c2.2]
          · rw [if_neg c2, up_F (by decide), up_F (by decide)]
        · rw [eτ1, up_F c]
          exact fr_trans (L := [fM_tForm, fM_tNot]) (fr_u (by decide)) (fr_u (by decide)) F hF
      have m84 : m_testedWhat_84 d τ now = m_testedWhat_120 d (ga_up τ fM_tForm 0 (τ fM_tCount 0 0) 0) 0 (τ fM_tCount 0 0) := by
        rw [e_m_testedWhat_84, ck_ok _ hj]
        by_cases cn : now = 0
        · rw [if_pos cn, mb_isNext (by omega) (by rw [up_F (by decide)]; exact bad)]
          simp only [Option.bind_some]
          rw [if_pos trivial, e_m_testedWhat_119]
        · rw [if_neg cn, e_m_testedWhat_119]
      have mT : c_m_testedWhat (d + 1) τ now = m_testedWhat_84 d τ now := by
        rw [e_m_testedWhat]
        by_cases cn : now = 0
        · rw [if_pos cn, mb_isNext (by omega) bad]
          simp only [Option.bind_some]
          rw [if_pos trivial, mb_isNext (by omega) bad]
          simp only [Option.bind_some]
          rw [if_pos trivial]
        · rw [if_neg cn]
      obtain ⟨τ2, eτ2⟩ : ∃ x, x = ga_up (ga_up (ga_up τ1 fM_what 0 0 (τ1 fM_at 0 0)) fM_tWhat 0 (τ fM_tCount 0 0) (τ1 fM_at 0 0)) fM_tOtherRun 0 (τ fM_tCount 0 0) (w32 (τ1 fM_runs 0 0 - 1)) := ⟨_, rfl⟩
      have b2 : τ2 fM_isBad 0 0 = 1 := by rw [eτ2, up_F (by decide), up_F (by decide), up_F (by decide)]; exact b1
      have j2 : τ2 fM_tCount 0 0 = τ fM_tCount 0 0 := by rw [eτ2, up_F (by decide), up_F (by decide), up_F (by decide)]; exact j1
      have hm : tqM (d + 1) τ now = some (0, ga_up (ga_up τ2 fM_tEnd 0 (τ fM_tCount 0 0) (τ2 fM_at 0 0)) fM_tCount 0 0 (τ fM_tCount 0 0 + 1)) := by
        unfold tqM
        rw [mT, m84, e_m_testedWhat_120, ck_ok _ hj, z1_ok _ (by omega), up_F (F' := fM_tCount) (by decide), ck_ok _ hj, up_eq, if_pos rfl, e_m_testedWhat_143, up_F (F' := fM_at) (by decide), Int.add_zero, w32_ok (by omega), ← eτ1, mb_what (by omega) b1]
        simp only [Option.bind_some]
        rw [up_F (F' := fM_tCount) (by decide), j1, ck_ok _ hj, ck_ok _ hj, up_eq, up_F (F' := fM_runs) (by decide), ← eτ2]
        simp only [Option.bind_some]
        rw [mb_351 b2 (by rw [j2]; exact hj), j2]
      have m2 : fr tqN τ τ2 := by rw [eτ2]; exact fr_trans (fr_sub m0 (by decide)) (fr_trans (fr_trans (fr_u (by decide)) (fr_u (by decide))) (fr_u (by decide)))
      have k2 : ∀ F, F ∈ [fM_at, fM_isBad, fM_badAt, fM_runs, fM_runFrom, fM_runSize] → τ2 F = τ F := by
        intro F hF
        simp only [List.mem_cons, List.not_mem_nil, or_false] at hF
        rcases hF with e | e | e | e | e | e <;> subst e <;> rw [eτ2, up_F (by decide), up_F (by decide), up_F (by decide), m0 _ (by decide)]
      have kU : tKeep τ τ1 (τ fM_tCount 0 0) := by
        intro F hF i hi
        rw [eτ1]
        by_cases c : F = fM_at
        · subst c; exact absurd hF (by decide)
        · rw [up_F c, up_j hi, up_j hi]
      refine ⟨σ', _, h1, hm, ⟨⟨?_, ?_, fr_sub h2 (by decide), ?_, h5, rKeepC_eq h6 h7, ?_, ?_⟩, up_eq .., fun z => ?_⟩, h2, ?_, fun z => ?_⟩
      · unfold PR
        rw [up_F (F' := fM_at) (by decide), up_F (F' := fM_at) (by decide), up_F (F' := fM_isBad) (by decide), up_F (F' := fM_isBad) (by decide), up_F (F' := fM_badAt) (by decide), up_F (F' := fM_badAt) (by decide), k2 fM_at (by decide), k2 fM_isBad (by decide), k2 fM_badAt (by decide), h3]
        exact ⟨⟨h4.1, h4.2, hR.2.2.1, hR.2.2.2⟩, Or.inr (h.2.resolve_left (fun z => cb z.1))⟩
      · exact JR_bad hJ h5 (by rw [up_F (by decide), up_F (by decide), k2 _ (by decide)]) (by rw [h3]; exact cb)
      · exact fr_trans (fr_sub m2 (by decide)) (fr_trans (fr_u (by decide)) (fr_u (by decide)))
      · exact rKeep_eq (by rw [up_F (by decide), up_F (by decide), k2 _ (by decide)]) (by rw [up_F (by decide), up_F (by decide), k2 _ (by decide)]) (by rw [up_F (by decide), up_F (by decide), k2 _ (by decide)])
      · have kV : tKeep τ1 τ2 (τ fM_tCount 0 0) := by
          rw [eτ2]
          exact tKeep_trans (tKeep_trans (tKeep_f (L := [fM_what]) (fr_u (by decide)) (mem_no (by decide))) tKeep_u) tKeep_u
        exact tKeep_trans kU (tKeep_trans kV (tKeep_trans tKeep_u (tKeep_f (L := [fM_tCount]) (fr_u (by decide)) (mem_no (by decide)))))
      · rw [h3] at z; exact absurd z cb
      · exact fr_trans m2 (fr_trans (fr_u (by decide)) (fr_u (by decide)))
      · rw [h3] at z; exact absurd z cb
    -- the component's stores
    have c316 : ∀ c, σ fT_kinds 0 (σ fR_p 0 0) = c → (c = 60 ∨ c = 61) → tqC (d + 1) σ b now = r_testShape_316 (d + 1) σ b → ∃ σ' τ', tqC (d + 1) σ b now = some (0, σ') ∧ tqM (d + 1) τ now = some (0, τ') ∧ tsR σ σ' τ τ' f N b (τ fM_tCount 0 0) ∧ fr tqL σ σ' ∧ fr tqN τ τ' ∧ (σ' fR_bad 0 0 = -1 → nE (τ' fM_tNot 0 (τ fM_tCount 0 0)) (σ' fR_isNot 0 0) ∧ rw2 σ' τ' f b (τ fM_tCount 0 0) ∧ (σ' fR_form 0 0 = 3 → now = 0)) := by
      intro c hc hc2 h1
      have lt := ENV_lt hE hR.2.1 hc (by omega) (by omega)
      have nb : (ga_up (ga_up (ga_up σ fR_form 0 0 3) fR_behindFrom 0 0 (σ fR_p 0 0)) fR_p 0 0 (σ fR_p 0 0 + 1)) fR_bad 0 0 ≠ -1 := by rw [up_F (by decide), up_F (by decide), up_F (by decide)]; exact cb
      refine fin (ga_up (ga_up (ga_up σ fR_form 0 0 3) fR_behindFrom 0 0 (σ fR_p 0 0)) fR_p 0 0 (σ fR_p 0 0 + 1)) ?_ (fr_trans (fr_trans (fr_u (by decide)) (fr_u (by decide))) (fr_u (by decide))) ?_ ?_ ?_ ?_ ?_
      · rw [h1, e_r_testShape_316, w32_ok (by omega), cb_take (by omega) nb]
        simp only [Option.bind_some]
        rw [cb_take (by omega) nb]
        simp only [Option.bind_some]
        exact s_r_528 (by omega) nb b
      · rw [up_F (by decide), up_F (by decide), up_F (by decide)]
      · rw [up_eq]; omega
      · rw [up_F (by decide), up_F (by decide), up_F (by decide)]
      · rw [up_F (by decide), up_F (by decide), up_F (by decide)]
      · rw [up_F (by decide), up_F (by decide), up_F (by decide)]
    have c358 : tqC (d + 1) σ b now = r_testShape_358 (d + 1) σ b now → ∃ σ' τ', tqC (d + 1) σ b now = some (0, σ') ∧ tqM (d + 1) τ now = some (0, τ') ∧ tsR σ σ' τ τ' f N b (τ fM_tCount 0 0) ∧ fr tqL σ σ' ∧ fr tqN τ τ' ∧ (σ' fR_bad 0 0 = -1 → nE (τ' fM_tNot 0 (τ fM_tCount 0 0)) (σ' fR_isNot 0 0) ∧ rw2 σ' τ' f b (τ fM_tCount 0 0) ∧ (σ' fR_form 0 0 = 3 → now = 0)) := by
      intro h1
      have n1 : (ga_up σ fR_form 0 0 2) fR_bad 0 0 ≠ -1 := by rw [up_F (by decide)]; exact cb
      obtain ⟨σ2, eσ2⟩ : ∃ x, x = ga_up (ga_up (ga_up σ fR_form 0 0 2) fR_isNot 0 0 0) fR_behindFrom 0 0 (σ fR_p 0 0) := ⟨_, rfl⟩
      have n2 : σ2 fR_bad 0 0 ≠ -1 := by rw [eσ2, up_F (by decide), up_F (by decide), up_F (by decide)]; exact cb
      have p2 : σ2 fR_p 0 0 = σ fR_p 0 0 := by rw [eσ2, up_F (by decide), up_F (by decide), up_F (by decide)]
      have e383 : r_testShape_383 (d + 1) (ga_up σ fR_form 0 0 2) b 0 = some (0, ga_up σ2 fR_whatAt 0 0 (σ fR_p 0 0)) := by
        rw [e_r_testShape_383, z1_ok _ (by omega), up_F (F' := fR_p) (by decide), ← eσ2, cb_what (by omega) n2 (by omega)]
        simp only [Option.bind_some]
        rw [p2, show ga_up (ga_up σ2 fR_whatAt 0 0 (σ fR_p 0 0)) fR_runs 0 0 ((ga_up σ fR_form 0 0 2) fR_runs 0 0) = ga_up σ2 fR_whatAt 0 0 (σ fR_p 0 0) from up_id (by rw [up_F (by decide), eσ2, up_F (by decide), up_F (by decide)])]
        exact s_r_528 (by omega) (by rw [up_F (by decide)]; exact n2) b
      refine fin (ga_up σ2 fR_whatAt 0 0 (σ fR_p 0 0)) ?_ ?_ ?_ ?_ ?_ ?_ ?_
      · rw [h1, e_r_testShape_358]
        by_cases cn : now = 0
        · rw [if_pos cn, cb_takes (by omega) n1 (by rw [up_F (by decide)]; omega)]
          simp only [Option.bind_some]
          rw [if_pos trivial, e_r_testShape_382, e383]
        · rw [if_neg cn, e_r_testShape_382, e383]
      · rw [eσ2]; exact fr_trans (fr_trans (fr_trans (fr_u (by decide)) (fr_u (by decide))) (fr_u (by decide))) (fr_u (by decide))
      · rw [up_F (by decide), eσ2, up_F (by decide), up_F (by decide), up_F (by decide)]
      · rw [up_F (by decide), p2]; omega
      · rw [up_F (by decide), eσ2, up_F (by decide), up_F (by decide), up_F (by decide)]
      · rw [up_F (by decide), eσ2, up_F (by decide), up_F (by decide), up_F (by decide)]
      · rw [up_F (by decide), eσ2, up_F (by decide), up_F (by decide), up_F (by decide)]
    by_cases cn : now = 0
    · by_cases c1 : σ fT_kinds 0 (σ fR_p 0 0) = 60
      · refine c316 60 c1 (Or.inl rfl) ?_
        unfold tqC
        rw [if_pos cn, s_r_is (by omega) (by omega), decide_eq_true c1]
        simp only [Option.bind_some]
        rw [if_neg b2i_n]
      · by_cases c2 : σ fT_kinds 0 (σ fR_p 0 0) = 61
        · refine c316 61 c2 (Or.inr rfl) ?_
          unfold tqC
          rw [if_pos cn, s_r_is (by omega) (by omega), decide_eq_false c1]
          simp only [Option.bind_some]
          rw [if_pos b2i_f, s_r_is (by omega) (by omega), decide_eq_true c2]
          simp only [Option.bind_some]
          rw [if_neg b2i_n]
        · refine c358 ?_
          unfold tqC
          rw [if_pos cn, s_r_is (by omega) (by omega), decide_eq_false c1]
          simp only [Option.bind_some]
          rw [if_pos b2i_f, s_r_is (by omega) (by omega), decide_eq_false c2]
          simp only [Option.bind_some]
          rw [if_pos b2i_f]
    · refine c358 ?_
      unfold tqC
      rw [if_neg cn]

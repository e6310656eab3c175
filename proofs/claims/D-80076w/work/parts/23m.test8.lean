/-! a test behind is, with a property -/
theorem toT_step {K : Int → Int} {now p b : Int} (h : toT K now p b) (hk : ¬ endT now (K p)) : toT K now (p + 1) b := by
  obtain ⟨h1, h2, h3⟩ := h
  refine ⟨?_, h2, fun q a c => h3 q (by omega) c⟩
  by_cases e : p = b
  · rw [e] at hk; exact absurd h2 hk
  · omega
theorem toT_mv {K : Int → Int} {now p p' b : Int} (h : toT K now p b) (hp : p ≤ p') (hk : ∀ q, p ≤ q → q < p' → ¬ endT now (K q)) : toT K now p' b := by
  obtain ⟨h1, h2, h3⟩ := h
  refine ⟨?_, h2, fun q a c => h3 q (by omega) c⟩
  refine Classical.byContradiction fun hc => ?_
  exact hk b h1 (by omega) h2
/-- what is told, kept apart -/
theorem T_what {σ τ : ga_S} {f : Int} {N : Nat} (hE : ENV σ τ f N) (h : PR σ τ f N) (hJ : JR σ τ) (hb : σ fR_bad 0 0 = -1) {d : Nat} (hd : 3 ≤ d) (j : Int) : ∃ σ' τ', c_r_what d σ = some (0, σ') ∧ c_m_what d τ = some (0, τ') ∧ tsQ σ (ga_up σ' fR_runs 0 0 (σ fR_runs 0 0)) τ τ' f N j ∧ fr wtC σ σ' ∧ fr wtM τ τ' ∧ τ' fM_what 0 0 = f + σ fR_p 0 0 ∧ (σ' fR_bad 0 0 = -1 → σ fR_p 0 0 < σ' fR_p 0 0 ∧ (∀ q, σ fR_p 0 0 ≤ q → q < σ' fR_p 0 0 → ∀ now, ¬ endT now (σ fT_kinds 0 q)) ∧ (((σ fT_kinds 0 (σ fR_p 0 0) = 1 ∨ σ fT_kinds 0 (σ fR_p 0 0) = 2) ∧ σ' fR_p 0 0 = σ fR_p 0 0 + 1) ∨ rnR (ga_up σ' fR_runs 0 0 (σ fR_runs 0 0)) τ' f (τ' fM_runs 0 0 - 1) (σ fR_p 0 0) (σ' fR_p 0 0))) := by
  have hR := h.1
  obtain ⟨σ', τ', e1, e2, e3, e4, e5, e6, e7, e8, e9, e10⟩ := P_what hE h hJ hb hd
  have PR' : PR (ga_up σ' fR_runs 0 0 (σ fR_runs 0 0)) τ' f N := PR_c e3 (up_F (by decide) ..) (up_F (by decide) ..) rfl rfl rfl
  have fC : fr tsC σ (ga_up σ' fR_runs 0 0 (σ fR_runs 0 0)) := fr_trans (fr_sub e4 (by decide)) (fr_u (by decide))
  have kC : rKeepC σ (ga_up σ' fR_runs 0 0 (σ fR_runs 0 0)) := fun i hi => by rw [up_F (by decide), up_F (by decide)]; exact e8 i hi
  have fM : fr tsM τ τ' := fr_sub e5 (by decide)
  have tK : tKeep τ τ' j := tKeep_f e5 (mem_no (by decide))
  have kk : (ga_up σ' fR_runs 0 0 (σ fR_runs 0 0)) fT_kinds = σ fT_kinds := fC _ (by decide)
  rcases e10 with b | ⟨b0, b1, b2⟩
  · exact ⟨σ', τ', e1, e2, ⟨PR', JR_bad hJ (up_eq ..) (by rw [b.2.2]) (by rw [up_F (by decide)]; exact b.1), fC, fM, up_eq .., kC, e9, tK⟩, e4, e5, e7, fun z => absurd z b.1⟩
  · rcases b2 with ⟨b3, b4, b5, b6⟩ | b3
    · refine ⟨σ', τ', e1, e2, ⟨PR', ?_, fC, fM, up_eq .., kC, e9, tK⟩, e4, e5, e7, fun _ => ⟨b1, fun q h1 h2 now z => ?_, Or.inl ⟨b3, b4⟩⟩⟩
      · exact JR_mv hJ (up_eq ..) (by rw [b6]) kk (fun _ => ⟨hb, Or.inr (by rw [up_F (by decide)]; exact b1)⟩)
      · rw [show q = σ fR_p 0 0 by omega] at z
        unfold endT at z
        omega
    · have ok := e3.2.resolve_right (fun z => by omega)
      have F := frE_r hE (p := σ fR_p 0 0) (by omega) (by omega)
      have kc : σ' fT_kinds = σ fT_kinds := e4 _ (by decide)
      have J2 : JR σ' τ' := JR_run hJ hE kc (a := σ fR_p 0 0) (r := τ fM_runs 0 0) (fun _ => ⟨Int.le_refl _, Or.inl rfl⟩) ⟨hb, b3⟩ ok.2.2.2.1 (by omega)
      obtain ⟨w1, w2, w3, w4⟩ := J2
      obtain ⟨v1, v2, v3, v4⟩ := hJ
      have rs := b3.2.2.2.2.2.2.1
      have ra := b3.2.2.2.2.2.2.2.2.2.1 (τ fM_runs 0 0)
      have rz := b3.2.2.2.2.2.2.2.2.2.2 (τ fM_runs 0 0)
      rw [if_pos rfl] at ra rz
      have er : τ' fM_runs 0 0 - 1 = τ fM_runs 0 0 := by omega
      have fre : ∀ q, σ fR_p 0 0 ≤ q → q < σ' fR_p 0 0 → σ fT_kinds 0 q = 0 := by
        intro q h1 h2
        rw [b3.2.2.2.1] at h2
        exact F.2.2.2 q h1 h2
      refine ⟨σ', τ', e1, e2, ⟨PR', ?_, fC, fM, up_eq .., kC, e9, tK⟩, e4, e5, e7, fun _ => ⟨b1, fun q h1 h2 now z => ?_, Or.inr ?_⟩⟩
      · unfold JR
        rw [up_eq, up_F (F' := fR_bad) (by decide), up_F (F' := fR_p) (by decide), up_F (F' := fT_kinds) (by decide)]
        exact ⟨v1, by omega, w3, w4⟩
      · rw [fre q h1 h2] at z
        unfold endT at z
        omega
      · rw [er]
        exact ⟨by omega, by omega, ra, rz, b1, ⟨by omega, ENV_st hE kk ok.2.2.2.1⟩, fun q h1 h2 => by rw [kk]; exact fre q h1 h2⟩
noncomputable def tqC (d : Nat) (σ : ga_S) (b now : Int) : Option ga_R := if now = 0 then
    (c_r_is d σ (σ fR_p 0 0) 60).bind fun q18 =>
      if q18.1 = 0 then
        (c_r_is d q18.2 (q18.2 fR_p 0 0) 61).bind fun q19 =>
          if q19.1 = 0 then
            r_testShape_358 d q19.2 b now
          else
            r_testShape_316 d q19.2 b
      else
        r_testShape_316 d q18.2 b
  else
    r_testShape_358 d σ b now
noncomputable def tqM (d : Nat) (τ : ga_S) (now : Int) : Option ga_R := (c_m_testedWhat d τ now).bind fun q9 => m_test_351 d q9.2 now
/-- rows of what a property's test tells -/
def rw2 (σ τ : ga_S) (f b j : Int) : Prop := (σ fR_form 0 0 = 2 ∧ τ fM_tForm 0 j = 0 ∧ τ fM_tWhat 0 j = f + σ fR_behindFrom 0 0 ∧ (((σ fT_kinds 0 (σ fR_behindFrom 0 0) = 1 ∨ σ fT_kinds 0 (σ fR_behindFrom 0 0) = 2) ∧ b = σ fR_behindFrom 0 0 + 1) ∨ rnR σ τ f (τ fM_tOtherRun 0 j) (σ fR_behindFrom 0 0) b)) ∨
     (σ fR_form 0 0 = 3 ∧ τ fM_tNot 0 j = 0 ∧ ((σ fT_kinds 0 (σ fR_behindFrom 0 0) = 60 ∧ τ fM_tForm 0 j = 1) ∨ (σ fT_kinds 0 (σ fR_behindFrom 0 0) = 61 ∧ τ fM_tForm 0 j = 2)) ∧ τ fM_tWhat 0 j = f + (b - 1) ∧ σ fT_kinds 0 (b - 1) = 1 ∧ 0 ≤ σ fR_behindFrom 0 0 ∧ σ fR_behindFrom 0 0 < b)
def tqL : List Nat := [fR_p, fR_bad, fR_runs, fR_runFrom, fR_runTo, fR_whatAt, fR_form, fR_isNot, fR_behindFrom]
def tqN : List Nat := [fM_at, fM_isBad, fM_badAt, fM_runs, fM_runFrom, fM_runSize, fM_what, fM_tForm, fM_tNot, fM_tWhat, fM_tOtherRun, fM_tEnd, fM_tCount]
/-- compared with a number -/
theorem T_cmp {σ τ : ga_S} {f : Int} {N : Nat} (hE : ENV σ τ f N) (h : PR σ τ f N) (hJ : JR σ τ) (hb : σ fR_bad 0 0 = -1) {d : Nat} (hd : 2 ≤ d) {b c s : Int} (hT : toT (σ fT_kinds 0) 0 (σ fR_p 0 0) b) (hj : 0 ≤ τ fM_tCount 0 0 ∧ τ fM_tCount 0 0 < 1700) (hc : σ fT_kinds 0 (σ fR_p 0 0) = c) (hcs : c = 60 ∧ s = 1 ∨ c = 61 ∧ s = 2) (hn : τ fM_tNot 0 (τ fM_tCount 0 0) = 0) : ∃ σ' τ', r_testShape_316 d σ b = some (0, σ') ∧ (m_testedWhat_47 d τ s (τ fM_tCount 0 0)).bind (fun q9 => m_test_351 d q9.2 0) = some (0, τ') ∧ tsR σ σ' τ τ' f N b (τ fM_tCount 0 0) ∧ fr tqL σ σ' ∧ fr tqN τ τ' ∧ σ' fR_isNot = σ fR_isNot ∧ τ' fM_tNot = τ fM_tNot ∧ (σ' fR_bad 0 0 = -1 → rw2 σ' τ' f b (τ fM_tCount 0 0)) := by
  have hf := hE.1
  have hN := hE.2.1
  have hR := h.1
  obtain ⟨j, ej⟩ : ∃ j, j = τ fM_tCount 0 0 := ⟨_, rfl⟩
  rw [← ej] at hj hn ⊢
  obtain ⟨P1, lt, ea⟩ := PR_1 hE h ⟨hb, hc⟩ (by omega) (by omega)
  have T1 := toT_step hT (by rw [hc]; unfold endT; omega)
  -- over less, more
  have Q1 : tsQ σ (ga_up σ fR_p 0 0 (σ fR_p 0 0 + 1)) τ (ga_up τ fM_at 0 0 (τ fM_at 0 0 + 1)) f N j := PR_Q P1 hJ (fr_u (by decide)) (fr_u (by decide)) (fun _ => ⟨hb, Or.inr (by rw [up_eq]; omega)⟩)
  obtain ⟨σ2, eσ2⟩ : ∃ x, x = ga_up (ga_up (ga_up σ fR_p 0 0 (σ fR_p 0 0 + 1)) fR_form 0 0 3) fR_behindFrom 0 0 (σ fR_p 0 0) := ⟨_, rfl⟩
  obtain ⟨τ2, eτ2⟩ : ∃ x, x = ga_up (ga_up τ fM_at 0 0 (τ fM_at 0 0 + 1)) fM_tForm 0 j s := ⟨_, rfl⟩
  have Q2 : tsQ (ga_up σ fR_p 0 0 (σ fR_p 0 0 + 1)) σ2 (ga_up τ fM_at 0 0 (τ fM_at 0 0 + 1)) τ2 f N j := by
    rw [eσ2, eτ2]
    exact tsQ_up Q1.1 Q1.2.1 (LC := [fR_form, fR_behindFrom]) (LM := [fM_tForm]) (fr_trans (fr_u (by decide)) (fr_u (by decide))) (fr_u (by decide)) (by decide) (by decide) tKeep_u
  have E2 := tsQ_E Q2 (tsQ_E Q1 hE)
  obtain ⟨v3, σ3, τ3, a1, a2, a3, a4, a5, a6, a7⟩ := P_take' E2 Q2.1 (d := d) hd (c := 59) (m := 150) (by decide) (by omega) (by omega) (by omega)
  have Q3 : tsQ σ2 σ3 τ2 τ3 f N j := PR_Q a3 Q2.2.1 a4 a5 (fun z => ⟨(a6.mp z).1, Or.inr (by have := a7 z; omega)⟩)
  have Q4 : tsQ σ3 σ3 τ3 (ga_up τ3 fM_tWhat 0 j (τ3 fM_at 0 0)) f N j := tsQ_up Q3.1 Q3.2.1 (LC := []) (LM := [fM_tWhat]) (fr_refl _ _) (fr_u (by decide)) (by decide) (by decide) tKeep_u
  have E4 := tsQ_E Q4 (tsQ_E Q3 E2)
  obtain ⟨v5, σ5, τ5, b1, b2, b3, b4, b5, b6, b7⟩ := P_take' E4 Q4.1 (d := d) hd (c := 1) (m := 4) (by decide) (by omega) (by omega) (by omega)
  have Q5 : tsQ σ3 σ5 (ga_up τ3 fM_tWhat 0 j (τ3 fM_at 0 0)) τ5 f N j := PR_Q b3 Q4.2.1 b4 b5 (fun z => ⟨(b6.mp z).1, Or.inr (by have := b7 z; omega)⟩)
  have E5 := tsQ_E Q5 E4
  have p2 : σ2 fR_p 0 0 = σ fR_p 0 0 + 1 := by rw [eσ2, up_F (by decide), up_F (by decide), up_eq]
  have k2 : σ2 fT_kinds = σ fT_kinds := by rw [eσ2, up_F (by decide), up_F (by decide), up_F (by decide)]
  have k3 : σ3 fT_kinds = σ fT_kinds := (a4 _ (by decide)).trans k2
  have k5 : σ5 fT_kinds = σ fT_kinds := (b4 _ (by decide)).trans k3
  have j3 : τ3 fM_tCount 0 0 = j := by rw [a5 _ (by decide), eτ2, up_F (by decide), up_F (by decide)]; exact ej.symm
  have j5 : τ5 fM_tCount 0 0 = j := by rw [b5 _ (by decide), up_F (by decide)]; exact j3
  have T5 : σ5 fR_bad 0 0 = -1 → toT (σ5 fT_kinds 0) 0 (σ5 fR_p 0 0) b := by
    intro z
    have z3 := b6.mp z
    have z2 := a6.mp z3.1
    have q3 := a7 z3.1
    have q5 := b7 z
    rw [k3] at z3
    rw [k2] at z2
    rw [k5, q5, q3, p2]
    rw [q3, p2] at z3
    rw [p2] at z2
    exact toT_step (toT_step T1 (by rw [z2.2]; unfold endT; omega)) (by rw [z3.2]; unfold endT; omega)
  obtain ⟨σ', τ', n1, n2, ⟨n3, n4, n5⟩, n6, n7, n8⟩ := T_fin E5 Q5.1 Q5.2.1 hd T5 (by rw [j5]; exact hj)
  rw [j5] at n3 n4
  have hc1 : ga_up (ga_up (ga_up σ fR_form 0 0 3) fR_behindFrom 0 0 (σ fR_p 0 0)) fR_p 0 0 (w32 (σ fR_p 0 0 + 1)) = σ2 := by
    rw [eσ2, w32_ok (by omega), up_comm (F := fR_behindFrom) (F' := fR_p) (by decide), up_comm (F := fR_form) (F' := fR_p) (by decide)]
  have hm1 : ga_up (ga_up τ fM_tForm 0 j s) fM_at 0 0 (w32 (τ fM_at 0 0 + 1)) = τ2 := by
    rw [eτ2, w32_ok (by omega), up_comm (F := fM_tForm) (F' := fM_at) (by decide)]
  refine ⟨σ', τ', ?_, ?_, ⟨tsQ_trans Q1 (tsQ_trans Q2 (tsQ_trans Q3 (tsQ_trans Q4 (tsQ_trans Q5 n3)))), n4, fun z => ⟨hb, (n5 z).2⟩⟩, ?_, ?_, ?_, ?_, fun z => Or.inr ?_⟩
  · rw [e_r_testShape_316, hc1, a1]
    simp only [Option.bind_some]
    rw [b1]
    simp only [Option.bind_some]
    exact n1
  · rw [e_m_testedWhat_47, ck_ok _ hj, hm1, a2]
    simp only [Option.bind_some]
    rw [j3, ck_ok _ hj, b2]
    simp only [Option.bind_some]
    exact n2
  · rw [eσ2] at a4
    exact fr_trans (fr_trans (fr_trans (fr_u (by decide)) (fr_u (by decide))) (fr_u (by decide))) (fr_trans (fr_sub a4 (by decide)) (fr_trans (fr_sub b4 (by decide)) (fr_sub n6 (by decide))))
  · rw [eτ2] at a5
    exact fr_trans (fr_trans (fr_u (by decide)) (fr_u (by decide))) (fr_trans (fr_sub a5 (by decide)) (fr_trans (fr_u (by decide)) (fr_trans (fr_sub b5 (by decide)) (fr_sub n7 (by decide)))))
  · rw [n6 _ (by decide), b4 _ (by decide), a4 _ (by decide), eσ2, up_F (by decide), up_F (by decide), up_F (by decide)]
  · rw [n7 _ (by decide), b5 _ (by decide), up_F (by decide), a5 _ (by decide), eτ2, up_F (by decide), up_F (by decide)]
  · have z5 := (n5 z).1
    have z3 := b6.mp z5
    have q3 := a7 z3.1
    have q5 := b7 z5
    have pb := n8 z
    have ok3 := a3.2.resolve_right (fun y => by have := z3.1; omega)
    have hbf : σ' fR_behindFrom 0 0 = σ fR_p 0 0 := by rw [n6 _ (by decide), b4 _ (by decide), a4 _ (by decide), eσ2, up_eq]
    have kk : σ' fT_kinds = σ fT_kinds := (n6 _ (by decide)).trans k5
    rw [k3] at z3
    refine ⟨?_, ?_, ?_, ?_, ?_, ?_⟩
    · rw [n6 _ (by decide), b4 _ (by decide), a4 _ (by decide), eσ2, up_F (by decide), up_eq]
    · rw [n7 _ (by decide), b5 _ (by decide), up_F (by decide), a5 _ (by decide), eτ2, up_F (by decide), up_F (by decide)]; exact hn
    · rw [hbf, kk, hc, n7 _ (by decide), b5 _ (by decide), up_F (by decide), a5 _ (by decide), eτ2, up_eq]
      omega
    · rw [n7 _ (by decide), b5 _ (by decide), up_eq, ok3.2.2.2.2]; omega
    · rw [kk, show b - 1 = σ3 fR_p 0 0 by omega]; exact z3.2
    · rw [hbf]; omega

/-! the loop of a story, on both sides -/
theorem mmL {L : List Nat} {F : Nat} (h : L.contains F = true) : F ∈ L := List.contains_iff_mem.mp h
theorem st_bad0 {σ : ga_S} (d : Nat) (s : Int) (h : σ fR_fault 0 0 ≠ 0) : r_story_159 d σ s 0 = some (-1, σ) := by
  rw [e_r_story_159, if_neg h, e_r_story_172, show ga_iand 0 0 = 0 by decide, e_r_story_19, if_pos rfl, if_neg h]
section
variable {σ σ1 τ : ga_S} {f M N : Nat} {g s : Int}
theorem st_oddC (H : ST0 σ τ M f g s) {d : Nat} (hd : 21 ≤ d) (x1 : c_t_sentence d σ 0 = some (0, σ1)) (x2 : fr tkL σ σ1) (x4 : σ1 fT_count 0 0 = ((N + 1 : Nat) : Int)) (A : snA σ σ1 0 N) (c7 : vK σ 0 N = 7) : ∃ v σ' τ', r_story_19 d σ s 1 = some (v, σ') ∧ m_readStory_36 d τ = some (0, τ') ∧ stE σ τ σ' τ' v := by
  obtain ⟨⟨hR, hB, hT, hi, hP⟩, ⟨hI, hK, hY⟩, ⟨ha, hf0, hse, hrf⟩, I, ⟨hs, hs0, hg⟩⟩ := H
  have rC := e_r_story_19 d σ s 1
  rw [if_neg (by decide), x1] at rC
  simp only [Option.bind_some] at rC
  have rM := e_m_readStory_36 d τ
  rw [if_pos hf0, ha] at rM
  have SL : SLT σ1 := SLT_f I.2.2.2.2.2.1.1 (fun F hF => fr_no x2 (M := slF3) (by decide) hF)
  have I1 : SI σ1 τ g := SI_f I x2 (by decide) (fr_refl [] τ) (by decide)
  have r1 := hR.1
  have r3 := hR.2.2.1
  have rg := fun k => sP_r (B := σ fT_bytes 0) (x := inT σ 0) (n := σ fT_size 0 0) (a := σ fT_at 0 0) hT.2.2.2 k
  have k1 : fr bgC σ σ1 := fr_sub x2 (mem_all (by decide))
  have f1 : σ1 fR_fault 0 0 = 0 := by rw [x2 _ (by decide)]; exact hrf
  have eb : σ1 fT_bytes = σ fT_bytes := x2 _ (by decide)
  have ez : σ1 fT_size = σ fT_size := x2 _ (by decide)
  have ei : σ1 fT_inText = σ fT_inText := x2 _ (by decide)
  have el : σ1 fT_all = σ fT_all := x2 _ (by decide)
  have B1 : BYT σ1 τ := by
    unfold BYT byteR at hB ⊢
    rw [eb, ez]; exact hB
  have i1 : inT σ1 0 = false := by
    unfold inT at hi ⊢
    rw [ei]; exact hi
  have A' := A
  obtain ⟨s1, s2, s3, s4, s5, s6, s7⟩ := A'
  obtain ⟨q1, q2, q3⟩ := TOK_pos hR hB hi hP (N := N) (fun j hj => ⟨(s3 j hj).2.1, (s3 j hj).2.2⟩)
  have T1 : tOk σ1 0 := by
    unfold tOk rAll at hT ⊢
    have := rg N
    rw [ez, el, s6]
    exact ⟨hT.1, hT.2.1, hT.2.2.1, by unfold vE; omega, by unfold vE; omega⟩
  obtain ⟨τ', o1, o2, o3, o4, o5, o6⟩ := m_odd hR hB hT hi hP A c7 ha (d := d) (by omega)
  rw [if_pos c7] at s7
  have p0 : 0 ≤ vP σ 0 N := (rg N).1
  have nw : ¬ σ1 fT_wrong 0 0 = -1 := by
    rw [s7]
    exact fun z => absurd p0 (by rw [z]; decide)
  obtain ⟨o, eo⟩ : ∃ x : Int, x = (f : Int) + N := ⟨_, rfl⟩
  rw [← eo] at o1 o4 o6
  have nf : ¬ o = -1 := by omega
  clear rg s3 s5 q2
  rw [if_neg nw, st_bad _ _ (by rw [up_F (by decide), up_eq]; decide)] at rC
  rw [ck_ok _ (by omega), if_neg o5, o1] at rM
  simp only [Option.bind_some] at rM
  rw [o2] at rM
  simp only [Option.bind_some] at rM
  rw [if_neg nf, ck_ok _ (by omega), m_failed (by omega)] at rM
  simp only [Option.bind_some] at rM
  rw [e_m_readStory_170] at rM
  obtain ⟨υ, eu⟩ : ∃ x, x = ga_up (ga_up τ' fM_fault 0 0 1) fM_faultPlace 0 0 (τ' fM_place 0 o) := ⟨_, rfl⟩
  rw [← eu] at rM
  have hu : υ fM_fault 0 0 = 1 := by rw [eu, up_F (by decide), up_eq]
  have hp : υ fM_faultPlace 0 0 = vP σ 0 N := by rw [eu, up_eq, o3 _ (by decide)]; exact o6
  have fu : fr (fM_fault :: fM_faultPlace :: seM) τ υ := by
    rw [eu]
    exact fr_trans (fr_sub o3 (fun F hF => List.mem_cons_of_mem _ (List.mem_cons_of_mem _ hF))) (fr_trans (fr_u (by decide)) (fr_u (by decide)))
  have rH := m_halt (τ := υ) d (by rw [hu]; decide)
  obtain ⟨ρ, er⟩ : ∃ x, x = ga_up (ga_up σ1 fR_fault 0 0 1) fR_where 0 0 (σ1 fT_wrong 0 0) := ⟨_, rfl⟩
  rw [← er] at rC
  have fe : fr [fR_fault, fR_where] σ1 ρ := by rw [er]; exact fr_trans (fr_u (by decide)) (fr_u (by decide))
  have hr : ρ fR_fault 0 0 = 1 := by rw [er, up_F (by decide), up_eq]
  have hw : ρ fR_where 0 0 = vP σ 0 N := by rw [er, up_eq]; exact s7
  refine ⟨-1, ρ, υ, rC, rM.trans rH, fr_trans k1 (fr_sub fe (mem_all (by decide))), fr_sub fu (mem_all (by decide)), SLT_f SL (fun F hF => fr_no fe (M := slF3) (by decide) hF), ?_, Or.inl ⟨by rw [hr]; decide, rfl, by rw [hu, hr], by rw [hp, hw]⟩⟩
  rw [fu _ (by decide)]; exact hY
theorem st_senC (H : ST0 σ τ M f g s) {d : Nat} (hd : 21 ≤ d) (x1 : c_t_sentence d σ 0 = some (0, σ1)) (x2 : fr tkL σ σ1) (x4 : σ1 fT_count 0 0 = ((N + 1 : Nat) : Int)) (hM : 0 < M) (ih : ∀ (f' : Nat) (σ τ : ga_S) (g s : Int), f < f' → f' ≤ M → ST0 σ τ M f' g s → ∃ v σ' τ', r_story_19 d σ s 1 = some (v, σ') ∧ m_readStory_36 d τ = some (0, τ') ∧ stE σ τ σ' τ' v) (A : snA σ σ1 0 N) (c7 : vK σ 0 N ≠ 7) : ∃ v σ' τ', r_story_19 d σ s 1 = some (v, σ') ∧ m_readStory_36 d τ = some (0, τ') ∧ stE σ τ σ' τ' v := by
  obtain ⟨⟨hR, hB, hT, hi, hP⟩, ⟨hI, hK, hY⟩, ⟨ha, hf0, hse, hrf⟩, I, ⟨hs, hs0, hg⟩⟩ := H
  have rC := e_r_story_19 d σ s 1
  rw [if_neg (by decide), x1] at rC
  simp only [Option.bind_some] at rC
  have rM := e_m_readStory_36 d τ
  rw [if_pos hf0, ha] at rM
  have SL : SLT σ1 := SLT_f I.2.2.2.2.2.1.1 (fun F hF => fr_no x2 (M := slF3) (by decide) hF)
  have I1 : SI σ1 τ g := SI_f I x2 (by decide) (fr_refl [] τ) (by decide)
  have r1 := hR.1
  have r3 := hR.2.2.1
  have rg := fun k => sP_r (B := σ fT_bytes 0) (x := inT σ 0) (n := σ fT_size 0 0) (a := σ fT_at 0 0) hT.2.2.2 k
  have k1 : fr bgC σ σ1 := fr_sub x2 (mem_all (by decide))
  have f1 : σ1 fR_fault 0 0 = 0 := by rw [x2 _ (by decide)]; exact hrf
  have eb : σ1 fT_bytes = σ fT_bytes := x2 _ (by decide)
  have ez : σ1 fT_size = σ fT_size := x2 _ (by decide)
  have ei : σ1 fT_inText = σ fT_inText := x2 _ (by decide)
  have el : σ1 fT_all = σ fT_all := x2 _ (by decide)
  have B1 : BYT σ1 τ := by
    unfold BYT byteR at hB ⊢
    rw [eb, ez]; exact hB
  have i1 : inT σ1 0 = false := by
    unfold inT at hi ⊢
    rw [ei]; exact hi
  have A' := A
  obtain ⟨s1, s2, s3, s4, s5, s6, s7⟩ := A'
  obtain ⟨q1, q2, q3⟩ := TOK_pos hR hB hi hP (N := N) (fun j hj => ⟨(s3 j hj).2.1, (s3 j hj).2.2⟩)
  have T1 : tOk σ1 0 := by
    unfold tOk rAll at hT ⊢
    have := rg N
    rw [ez, el, s6]
    exact ⟨hT.1, hT.2.1, hT.2.2.1, by unfold vE; omega, by unfold vE; omega⟩
  obtain ⟨E, Ln, T, t8, t3⟩ := TOK_ok hR hB hT hi hP x2 A c7
  rw [if_neg c7] at s7
  rw [if_pos s7] at rC
  have tk0 := (E.2.2.2.1 0 (Int.le_refl _) (by omega)).2.2
  rw [Int.add_zero] at tk0
  have kz : σ1 fT_kinds 0 0 = vK σ 0 0 := (s5 0 (Nat.zero_le _)).1
  have vr : 0 ≤ vK σ 0 0 ∧ vK σ 0 0 < 64 := tkK_r
  have eN := E.2.1
  by_cases c0 : N = 0 ∧ vK σ 0 0 = 8
  · have ct : σ1 fT_count 0 0 = 1 := by rw [x4, c0.1]; rfl
    have e0 := t8 (by rw [c0.1]; exact c0.2)
    rw [if_pos ct, s_r_is (by omega) ⟨Int.le_refl _, by decide⟩, kz, decide_eq_true c0.2] at rC
    simp only [Option.bind_some] at rC
    rw [if_neg b2i_n, if_neg (fun z => by have := hs0 z; omega), st_fin _ _ f1] at rC
    rw [ck_ok _ (by omega), if_pos (by rw [tk0, kz, c0.2]; rfl)] at rM
    exact ⟨s, σ1, τ, rC, rM, k1, fr_refl _ _, SL, hY, Or.inr ⟨f1, hs.1, hf0, hse, g, I1⟩⟩
  · have n8 : vK σ 0 0 ≠ 8 := by
      intro z
      rcases Nat.eq_zero_or_pos N with y | y
      · exact c0 ⟨y, z⟩
      · exact (s3 0 y).2.2 z
    have rC' : r_story_19 d σ s 1 = r_story_109 d σ1 s 1 := by
      rw [rC]
      by_cases c1 : σ1 fT_count 0 0 = 1
      · rw [if_pos c1, s_r_is (by omega) ⟨Int.le_refl _, by decide⟩, kz, decide_eq_false n8]
        simp only [Option.bind_some]
        rw [if_pos b2i_f]
      · rw [if_neg c1]
    have tne : τ fM_token 0 f ≠ 1 := by rw [tk0, kz, show (1 : Int) = cdM 8 from rfl]; exact fun z => n8 ((cdM_inj vr (by decide)).mp z)
    obtain ⟨v, σ2, τ2, y1, y2, y3, y4, y5⟩ := P_sentence E Ln (by rw [kz]; exact s1) ha (d := d) (by omega)
    rw [e_r_story_109, y1] at rC'
    simp only [Option.bind_some] at rC'
    rw [ck_ok _ (by omega), if_neg tne, m_even hR hB hi hP A c7 E (by omega)] at rM
    simp only [Option.bind_some] at rM
    rw [y2] at rM
    simp only [Option.bind_some] at rM
    rw [if_pos trivial] at rM
    have k2 : fr bgC σ σ2 := fr_trans k1 (fr_sub y3 (mem_all (by decide)))
    have m2 : fr bgM τ τ2 := fr_sub y4 (mem_all (by decide))
    have m2S : fr bgS τ τ2 := fr_sub y4 (mem_all (by decide))
    have SL2 : SLT σ2 := SLT_f SL (fun F hF => fr_no y3 (M := slF3) (by decide) hF)
    rcases y5 with ⟨z1, z2, z3, z4, z5⟩ | ⟨z1, z2, z3, z4, z5, z6, z7, z8⟩
    · have pl := (T.2.1 (σ2 fR_bad 0 0) z2 z3).2.2.2
      rw [z1, if_pos rfl, ck_ok _ (by omega), st_bad _ _ (by rw [up_F (by decide), up_eq]; decide)] at rC'
      rw [if_neg (by omega), z5, ck_ok _ (by omega), m_failed (by omega)] at rM
      simp only [Option.bind_some] at rM
      rw [e_m_readStory_170] at rM
      have rM := rM.trans (m_halt _ (by rw [up_F (by decide), up_eq]; decide))
      refine ⟨-1, _, _, rC', rM, ?_, ?_, ?_, ?_, Or.inl ⟨?_, rfl, ?_, ?_⟩⟩
      · exact fr_trans k2 (fr_trans (fr_u (mmL (by decide))) (fr_u (mmL (by decide))))
      · exact fr_trans m2S (fr_trans (fr_u (mmL (by decide))) (fr_u (mmL (by decide))))
      · exact SLT_f SL2 (fun F hF => fr_no (fr_trans (fr_u (L := [fR_fault, fR_where]) (by decide)) (fr_u (mmL (by decide)))) (M := slF3) (by decide) hF)
      · rw [up_F (by decide), up_F (by decide), y4 _ (by decide)]; exact hY
      · rw [up_F (by decide), up_eq]; decide
      · rw [up_F (by decide), up_eq, up_F (by decide), up_eq]
      · rw [up_eq, up_eq, y4 fM_place (by decide), y3 fT_places (by decide)]; exact pl
    · rw [z1, if_neg (by decide)] at rC'
      rw [if_pos z4, z6] at rM
      have k3 : vK σ 0 N = 3 := by rw [← (s5 N (Nat.le_refl _)).1, ← z2, y3 _ (by decide)]
      obtain ⟨lt, P1⟩ := t3 k3
      have I2 : SI σ2 τ2 g := SI_f I1 y3 (by decide) y4 (by decide)
      have E2 : E0 σ2 τ2 f N := ⟨ENV_c E (y3 _ (by decide)) (y4 _ (by decide)), TOK_f T y3 (by decide) y4 (by decide), I2.2.2.1.1, I2.1⟩
      have H2 : snH σ2 τ2 f N g := ⟨E2, I2, by rw [y3 _ (by decide)]; exact f1, z7, by rw [y4 _ (by decide)]; exact hY, IN_f (IN_f hI x2 (by decide)) y3 (by decide), rKeys_f hK (y4 _ (by decide)), by rw [y4 _ (by decide), y3 _ (by decide), eb]; exact hB.1, by rw [y3 _ (by decide), x4]; push_cast; rfl, z2⟩
      have at1 := rg N
      have e14 : σ2 fR_sort 0 0 = 8 → σ fT_at 0 0 + 14 ≤ vE σ 0 N := by
        intro z
        obtain ⟨_, R⟩ := z8
        rcases R with ⟨w, _⟩ | ⟨w, _⟩ | ⟨w, _⟩ | ⟨w, O⟩
        · omega
        · omega
        · omega
        · obtain ⟨_, O⟩ := O
          rcases O with ⟨_, _, _, _, O⟩ | ⟨O, _⟩ | ⟨O, _⟩ | ⟨O, _⟩ | ⟨O, _⟩
          · have o := O z
            exact pl_14 A k3 (by rw [← o.1, y3 _ (by decide)]) (by rw [← o.2.1, y3 _ (by decide)]) o.2.2
          · omega
          · omega
          · omega
          · omega
      have ae : σ fT_at 0 0 ≤ vE σ 0 N := by
        have a := sP_a (B := σ fT_bytes 0) (x := inT σ 0) (n := σ fT_size 0 0) (a := σ fT_at 0 0) N
        have b := (rg N).2.2.1
        exact Int.le_trans a b
      have vs : vE σ 0 N ≤ 5000 := Int.le_trans (rg N).2.2.2 hT.2.1
      have O := sn_all H2 (fun z => by have := e14 z; omega) z5 z8 (d := d) (by omega)
      have tl := st_tail (s := s) (b := (f : Int) + N + 1) (d := d) (by omega) O SL2 (by omega) (by rw [y4 _ (by decide)]; exact hse) (by
        intro σ3 τ3 G
        obtain ⟨G1, G2, ⟨g', G3, G4, G5⟩, G6, G7, G8, G9⟩ := G
        have NX := ST0_next (M := M) (s := s) (b := f + N + 1) (σ1 := σ1) (τ1 := τ) (g' := g') hR B1 T1 i1 P1 (IN_f hI x2 (by decide)) hK hf0 (fr_trans (fr_sub y3 (mem_all (by decide))) G6) (fr_trans m2 G7) (by rw [G8, y3 _ (by decide)]) G9 G1 G5 ⟨hs.1, by push_cast; omega⟩ (by
          rw [s6]
          by_cases c8 : σ2 fR_sort 0 0 = 8
          · have := e14 c8
            rw [if_pos c8] at G4
            omega
          · rw [if_neg c8] at G4
            omega)
        rw [show ((f + N + 1 : Nat) : Int) = (f : Int) + N + 1 by push_cast; rfl] at NX
        obtain ⟨v', σ', τ', n1, n2, n3⟩ := ih (f + N + 1) _ _ g' (s + 1) (by omega) (by omega) NX
        refine ⟨v', σ', τ', n1, n2, stE_l n3 G6 ?_⟩
        exact fr_trans (fr_sub G7 (fun F hF => List.mem_cons_of_mem _ (List.mem_cons_of_mem _ (List.mem_cons_of_mem _ hF)))) (fr_trans (fr_u (mmL (by decide))) (fr_u (mmL (by decide)))))
      obtain ⟨v', σ', τ', n1, n2, n3⟩ := tl
      exact ⟨v', σ', τ', rC'.trans n1, rM.trans n2, stE_l n3 k2 m2S⟩
theorem st_txtC (H : ST0 σ τ M f g s) {d : Nat} (hd : 21 ≤ d) (x1 : c_t_sentence d σ 0 = some (0, σ1)) (x2 : fr tkL σ σ1) (x4 : σ1 fT_count 0 0 = ((N + 1 : Nat) : Int)) (ih : ∀ (f' : Nat) (σ τ : ga_S) (g s : Int), f < f' → f' ≤ M → ST0 σ τ M f' g s → ∃ v σ' τ', r_story_19 d σ s 1 = some (v, σ') ∧ m_readStory_36 d τ = some (0, τ') ∧ stE σ τ σ' τ' v) (B : snB σ σ1 0 N) : ∃ v σ' τ', r_story_19 d σ s 1 = some (v, σ') ∧ m_readStory_36 d τ = some (0, τ') ∧ stE σ τ σ' τ' v := by
  obtain ⟨⟨hR, hB, hT, hi, hP⟩, ⟨hI, hK, hY⟩, ⟨ha, hf0, hse, hrf⟩, I, ⟨hs, hs0, hg⟩⟩ := H
  have rC := e_r_story_19 d σ s 1
  rw [if_neg (by decide), x1] at rC
  simp only [Option.bind_some] at rC
  have rM := e_m_readStory_36 d τ
  rw [if_pos hf0, ha] at rM
  have SL : SLT σ1 := SLT_f I.2.2.2.2.2.1.1 (fun F hF => fr_no x2 (M := slF3) (by decide) hF)
  have I1 : SI σ1 τ g := SI_f I x2 (by decide) (fr_refl [] τ) (by decide)
  have r1 := hR.1
  have r3 := hR.2.2.1
  have rg := fun k => sP_r (B := σ fT_bytes 0) (x := inT σ 0) (n := σ fT_size 0 0) (a := σ fT_at 0 0) hT.2.2.2 k
  have k1 : fr bgC σ σ1 := fr_sub x2 (mem_all (by decide))
  have f1 : σ1 fR_fault 0 0 = 0 := by rw [x2 _ (by decide)]; exact hrf
  have eb : σ1 fT_bytes = σ fT_bytes := x2 _ (by decide)
  have ez : σ1 fT_size = σ fT_size := x2 _ (by decide)
  have ei : σ1 fT_inText = σ fT_inText := x2 _ (by decide)
  have el : σ1 fT_all = σ fT_all := x2 _ (by decide)
  have B1 : BYT σ1 τ := by
    unfold BYT byteR at hB ⊢
    rw [eb, ez]; exact hB
  have i1 : inT σ1 0 = false := by
    unfold inT at hi ⊢
    rw [ei]; exact hi
  obtain ⟨b1, b2, b3, b4, b5, b6, b7, b8, b9⟩ := B
  subst b2
  obtain ⟨q1, q2, q3⟩ := TOK_pos hR hB hi hP (N := 1) (fun j hj => by
    have : j = 0 := by omega
    subst this
    rw [b1]; decide)
  have r6 := hR.2.2.2.2.2.1
  have row := r6 f (by omega)
  have z0 := q2 0
  rw [show f + 0 = f by omega] at z0
  have kf : sK (τ fM_story 0) false (τ fM_storySize 0 0) 0 f = 2 := by rw [← z0.2.1]; exact b1
  have t5 : τ fM_token 0 f = 5 := by rw [row.2.1, kf]; rfl
  have g0 := rg 0
  have g1 := rg 1
  have sz := hT.2.1
  rw [if_pos b9, if_neg (by rw [x4]; decide), e_r_story_109] at rC
  obtain ⟨σ2, y1, y3, y6, y7⟩ := tx_C b3 b4 (d := d) (by omega)
  obtain ⟨τ2, y2, y4, w1, w2, w3, w4⟩ := tx_M ha (by omega) t5 (d := d) (by omega)
  obtain ⟨e, ed⟩ : ∃ e, d = e + 1 := ⟨d - 1, by omega⟩
  have od : c_m_oddOf d τ f = some (-1, τ) := by rw [ed, e_m_oddOf, ck_ok _ (by omega), if_pos t5]
  rw [y1] at rC
  simp only [Option.bind_some] at rC
  rw [if_neg (by decide)] at rC
  rw [ck_ok _ (by omega), if_neg (by rw [t5]; decide), od] at rM
  simp only [Option.bind_some] at rM
  rw [y2] at rM
  simp only [Option.bind_some] at rM
  rw [if_pos trivial, if_pos w2] at rM
  have dot : τ fM_token 0 ((f : Int) + 1) = 46 ↔ vK σ 0 1 = 3 := by
    by_cases c : f + 1 = M
    · have k8 := q3.mp c
      rw [show (f : Int) + 1 = (M : Int) by rw [← c]; push_cast; rfl, hR.2.2.2.1, k8]
      decide
    · have r := (r6 (f + 1) (by omega)).2.1
      rw [show (f : Int) + 1 = ((f + 1 : Nat) : Int) by push_cast; rfl, r, (q2 1).2.1, show (46 : Int) = cdM 3 from rfl]
      exact cdM_inj tkK_r (by decide)
  obtain ⟨n, hn⟩ : ∃ n : Nat, n = if vK σ 0 1 = 3 then f + 2 else f + 1 := ⟨_, rfl⟩
  have en : (n : Int) = τ2 fM_at 0 0 := by
    rw [w4, hn]
    by_cases c : vK σ 0 1 = 3
    · rw [if_pos c, if_pos (dot.mpr c)]; push_cast; rfl
    · rw [if_neg c, if_neg (fun z => c (dot.mp z))]; push_cast; rfl
  have nM : n ≤ M ∧ f + 1 ≤ n := by
    rw [hn]
    by_cases c : vK σ 0 1 = 3
    · rw [if_pos c]
      have : f + 1 ≠ M := fun z => by have := q3.mp z; omega
      omega
    · rw [if_neg c]; omega
  have ae : σ fT_at 0 0 ≤ σ1 fT_at 0 0 ∧ 0 ≤ σ1 fT_at 0 0 ∧ σ1 fT_at 0 0 ≤ σ fT_size 0 0 := by
    rw [b8]
    have a0 := sP_a (B := σ fT_bytes 0) (x := inT σ 0) (n := σ fT_size 0 0) (a := σ fT_at 0 0) 0
    have a1 := sP_a (B := σ fT_bytes 0) (x := inT σ 0) (n := σ fT_size 0 0) (a := σ fT_at 0 0) 1
    by_cases c : vK σ 0 1 = 3
    · rw [if_pos c]; unfold vE; omega
    · rw [if_neg c]; unfold vE; omega
  have T1 : tOk σ1 0 := by
    unfold tOk rAll at hT ⊢
    rw [ez, el]
    exact ⟨hT.1, hT.2.1, hT.2.2.1, ae.2.1, ae.2.2⟩
  have P1 : POS σ1 τ n := by
    refine ⟨?_, fun j hj => ?_⟩
    · rw [eb, ez, b8, hn]
      by_cases c : vK σ 0 1 = 3
      · rw [if_pos c, if_pos c, (q2 1).2.2, hB.1, hB.2.1]; rfl
      · rw [if_neg c, if_neg c, z0.2.2, hB.1, hB.2.1]; rfl
    · rw [eb, ez]
      by_cases c : j < f
      · exact hP.2 j c
      · by_cases c2 : j = f
        · rw [c2, ← hB.1, ← hB.2.1, kf]; decide
        · have c3 : vK σ 0 1 = 3 := by
            refine Classical.byContradiction fun z => ?_
            rw [hn, if_neg z] at hj
            omega
          have e3 : j = f + 1 := by rw [hn, if_pos c3] at hj; omega
          have := (q2 1).2.1
          rw [e3, ← hB.1, ← hB.2.1, ← this, c3]
          decide
  have qk := tkN_q (B := σ fT_bytes 0) (x := inT σ 0) (n := σ fT_size 0 0) (p := vP σ 0 0) b1
  have qo := of_decide_eq_true qk.2.2.2
  have T0 : TOK σ1 τ f 0 := by
    refine ⟨⟨by rw [ez]; exact hT.2.1, fun i => by rw [eb]; exact hB.2.2 i⟩, fun k h0 hk => ?_, fun k h0 hk => by omega, fun k h0 hk => by omega, fun k h0 hk => by omega, fun k h0 hk => by omega⟩
    have : k = 0 := by omega
    subst this
    rw [b5, b6, ez, Int.add_zero, row.1, ← z0.1]
    unfold vE vP
    exact ⟨g0.1, by omega, by omega, rfl⟩
  have I2 : SI σ2 τ2 g := SI_f I1 y3 (by decide) y4 (by decide)
  have SL2 : SLT σ2 := SLT_f SL (fun F hF => fr_no y3 (M := slF3) (by decide) hF)
  have k2 : fr bgC σ σ2 := fr_trans k1 (fr_sub y3 (mem_all (by decide)))
  have m2 : fr bgM τ τ2 := fr_sub y4 (mem_all (by decide))
  have m2S : fr bgS τ τ2 := fr_sub y4 (mem_all (by decide))
  have O : snO σ2 τ2 g f d := by
    have e1 : vE σ 0 0 = qS (σ fT_bytes 0) (σ fT_size 0 0) (vP σ 0 0) + 1 := qk.1
    have ea := sk_all (f := fun q => decide (¬ (σ fT_bytes 0) q = 34 ∧ 32 ≤ (σ fT_bytes 0) q ∧ (σ fT_bytes 0) q ≤ 126)) (n := σ fT_size 0 0) (vP σ 0 0 + 1)
    have e2 := ea.1
    have e3 : qS (σ fT_bytes 0) (σ fT_size 0 0) (vP σ 0 0) = sk (fun q => decide (¬ (σ fT_bytes 0) q = 34 ∧ 32 ≤ (σ fT_bytes 0) q ∧ (σ fT_bytes 0) q ≤ 126)) (σ fT_size 0 0) (vP σ 0 0 + 1) := rfl
    refine sn_0 I2 (TOK_f T0 y3 (by decide) y4 (by decide)) (by omega) (by rw [y3 _ (by decide)]; exact f1) (by rw [y4 _ (by decide)]; exact hY) (by rw [y4 _ (by decide), y3 _ (by decide), eb]; exact hB.1) y6 w1 w3 ?_ ?_ (by omega)
    · rw [y3 _ (by decide), y4 _ (by decide), b6, row.2.2.2.2 kf]
      rw [← z0.1, ← z0.2.2]
      exact ⟨by omega, rfl⟩
    · intro q q0 q1
      rw [y3 fT_places (by decide), b5] at q0 q1
      rw [y3 fT_lengths (by decide), b6] at q1
      rw [y3 fT_bytes (by decide), eb]
      have := of_decide_eq_true (ea.2.2.2 q (by omega) (by omega))
      omega
  have tl := st_tail (s := s) (b := τ2 fM_at 0 0) (d := d) (by omega) O SL2 (by omega) (by rw [y4 _ (by decide)]; exact hse) (by
    intro σ3 τ3 G
    obtain ⟨G1, G2, ⟨g', G3, G4, G5⟩, G6, G7, G8, G9⟩ := G
    rw [if_neg (by rw [y6]; decide)] at G4
    have NX := ST0_next (M := M) (s := s) (b := n) (σ1 := σ1) (τ1 := τ) (g' := g') hR B1 T1 i1 P1 (IN_f hI x2 (by decide)) hK hf0 (fr_trans (fr_sub y3 (mem_all (by decide))) G6) (fr_trans m2 G7) (by rw [G8, y3 _ (by decide)]) G9 G1 G5 ⟨hs.1, by omega⟩ (by omega)
    rw [en] at NX
    obtain ⟨v', σ', τ', n1, n2, n3⟩ := ih n _ _ g' (s + 1) (by omega) nM.1 NX
    refine ⟨v', σ', τ', n1, n2, stE_l n3 G6 ?_⟩
    exact fr_trans (fr_sub G7 (fun F hF => List.mem_cons_of_mem _ (List.mem_cons_of_mem _ (List.mem_cons_of_mem _ hF)))) (fr_trans (fr_u (mmL (by decide))) (fr_u (mmL (by decide)))))
  obtain ⟨v', σ', τ', n1, n2, n3⟩ := tl
  exact ⟨v', σ', τ', rC.trans n1, rM.trans n2, stE_l n3 k2 m2S⟩
end
theorem st_loop {M : Nat} {d : Nat} (hd : 21 ≤ d) (hM : 0 < M) : ∀ (m f : Nat) (σ τ : ga_S) (g s : Int), M - f < m → ST0 σ τ M f g s → ∃ v σ' τ', r_story_19 d σ s 1 = some (v, σ') ∧ m_readStory_36 d τ = some (0, τ') ∧ stE σ τ σ' τ' v := by
  intro m
  induction m with
  | zero => intro f σ τ g s h; omega
  | succ m ih =>
    intro f σ τ g s hm H
    obtain ⟨σ1, N, x1, x2, x3, x4, x5⟩ := s_t_sentence (d := d) (by omega) H.1.2.2.1
    have ih' : ∀ (f' : Nat) (σ τ : ga_S) (g s : Int), f < f' → f' ≤ M → ST0 σ τ M f' g s → ∃ v σ' τ', r_story_19 d σ s 1 = some (v, σ') ∧ m_readStory_36 d τ = some (0, τ') ∧ stE σ τ σ' τ' v := fun f' σ τ g s l1 l2 h => ih f' σ τ g s (by omega) h
    rcases x5 with A | B
    · by_cases c7 : vK σ 0 N = 7
      · exact st_oddC H hd x1 x2 x4 A c7
      · exact st_senC H hd x1 x2 x4 hM ih' A c7
    · exact st_txtC H hd x1 x2 x4 ih' B
/-- the story is read on both sides -/
theorem st_story {σ τ : ga_S} {M : Nat} {g : Int} {d : Nat} (hd : 21 ≤ d) (hR : rTok τ M) (hB : BYT σ τ) (hT : tOk σ 0) (ha : σ fT_at 0 0 = 0) (hi : inT σ 0 = false) (hI : IN (ga_up σ fR_inner 0 0 1)) (hK : rKeys τ) (hY : τ fM_isDry 0 0 = 0) (I : SI (ga_up (ga_up (ga_up σ fR_inner 0 0 1) fR_fault 0 0 0) fR_latest 0 0 (-1)) τ g) (hg : g ≤ 0) : ∃ v σ' τ', c_r_story (d + 1) σ 1 = some (v, σ') ∧ c_m_readStory (d + 1) τ = some (0, τ') ∧ stE (ga_up (ga_up (ga_up σ fR_inner 0 0 1) fR_fault 0 0 0) fR_latest 0 0 (-1)) (ga_up (ga_up (ga_up τ fM_fault 0 0 0) fM_sentences 0 0 0) fM_at 0 0 0) σ' τ' v := by
  obtain ⟨σ1, es⟩ : ∃ x, x = ga_up (ga_up (ga_up σ fR_inner 0 0 1) fR_fault 0 0 0) fR_latest 0 0 (-1) := ⟨_, rfl⟩
  obtain ⟨τ1, et⟩ : ∃ x, x = ga_up (ga_up (ga_up τ fM_fault 0 0 0) fM_sentences 0 0 0) fM_at 0 0 0 := ⟨_, rfl⟩
  have f1 : fr [fR_inner, fR_fault, fR_latest] σ σ1 := by rw [es]; exact fr_trans (fr_trans (fr_u (mmL (by decide))) (fr_u (mmL (by decide)))) (fr_u (mmL (by decide)))
  have f1' : fr [fR_fault, fR_latest] (ga_up σ fR_inner 0 0 1) σ1 := by rw [es]; exact fr_trans (fr_u (mmL (by decide))) (fr_u (mmL (by decide)))
  have m1 : fr [fM_fault, fM_sentences, fM_at] τ τ1 := by rw [et]; exact fr_trans (fr_trans (fr_u (mmL (by decide))) (fr_u (mmL (by decide)))) (fr_u (mmL (by decide)))
  rw [e_r_story, e_m_readStory, ← es, ← et]
  rw [← es] at I
  have eb : σ1 fT_bytes = σ fT_bytes := f1 _ (by decide)
  have ez : σ1 fT_size = σ fT_size := f1 _ (by decide)
  have ei : σ1 fT_inText = σ fT_inText := f1 _ (by decide)
  have el : σ1 fT_all = σ fT_all := f1 _ (by decide)
  have ea : σ1 fT_at = σ fT_at := f1 _ (by decide)
  have R1 : rTok τ1 M := rTok_f hR (fun F hF => fr_no m1 (M := sfL) (by decide) hF)
  have B1 : BYT σ1 τ1 := by
    unfold BYT byteR at hB ⊢
    rw [m1 fM_story (by decide), m1 fM_storySize (by decide), eb, ez]; exact hB
  have T1 : tOk σ1 0 := by
    unfold tOk rAll at hT ⊢
    rw [ez, ea, el]; exact hT
  have i1 : inT σ1 0 = false := by
    unfold inT at hi ⊢
    rw [ei]; exact hi
  have P1 : POS σ1 τ1 0 := ⟨by rw [ea, ha]; rfl, fun j hj => by omega⟩
  have I1 : SI σ1 τ1 g := SI_f I (fr_refl [] σ1) (by decide) m1 (by decide)
  have S0 : ST0 σ1 τ1 M 0 g 0 := ⟨⟨R1, B1, T1, i1, P1⟩, ⟨IN_f hI f1' (by decide), rKeys_f hK (m1 _ (by decide)), by rw [m1 _ (by decide)]; exact hY⟩, ⟨by rw [et, up_eq]; rfl, by rw [et, up_F (by decide), up_F (by decide), up_eq], by rw [et, up_F (by decide), up_eq], by rw [es, up_F (by decide), up_eq]⟩, I1, ⟨⟨Int.le_refl _, Int.le_refl _⟩, fun _ => rfl, by rw [ea, ha]; omega⟩⟩
  by_cases c : M = 0
  · -- nothing but the end
    obtain ⟨⟨hR, hB, hT, hi, hP⟩, ⟨hI, hK, hY⟩, ⟨ha, hf0, hse, hrf⟩, I, ⟨hs, hs0, hg⟩⟩ := S0
    obtain ⟨σ2, N, x1, x2, x3, x4, x5⟩ := s_t_sentence (d := d) (by omega) hT
    have k8 : vK σ1 0 0 = 8 := by
      have := (TOK_pos hR hB hi hP (N := 0) (fun j hj => by omega)).2.2
      exact this.mp (by omega)
    rcases x5 with A | B
    · have A' := A
      obtain ⟨s1, s2, s3, s4, s5, s6, s7⟩ := A'
      have n0 : N = 0 := by
        rcases Nat.eq_zero_or_pos N with z | z
        · exact z
        · exact absurd k8 (s3 0 z).2.2
      subst n0
      rw [if_neg (by rw [k8]; decide)] at s7
      have kz : σ2 fT_kinds 0 0 = 8 := by
        have := (s5 0 (Nat.le_refl _)).1
        rw [show ((0 : Nat) : Int) = 0 from rfl, k8] at this
        exact this
      have pz : σ2 fT_places 0 0 = vP σ1 0 0 := by
        have := (s5 0 (Nat.le_refl _)).2.1
        rw [show ((0 : Nat) : Int) = 0 from rfl] at this
        exact this
      have t1 : τ fM_token 0 0 = 1 := by
        have := hR.2.2.2.1
        rw [c, m1 _ (by decide)] at this
        exact this
      have p1 : τ fM_place 0 0 = vP σ1 0 0 := by
        have a := hR.2.2.2.2.1
        rw [c, m1 _ (by decide), hB.2.1] at a
        have b := tkK_8.mp k8
        have e := (sP_r (B := σ1 fT_bytes 0) (x := inT σ1 0) (n := σ1 fT_size 0 0) (a := σ1 fT_at 0 0) hT.2.2.2 0).2.1
        show τ fM_place 0 0 = sP _ _ _ _ _
        rw [show τ fM_place 0 0 = σ1 fT_size 0 0 from a]
        omega
      have f2 : σ2 fR_fault 0 0 = 0 := by rw [x2 _ (by decide)]; exact hrf
      have rC := e_r_story_19 d σ1 0 1
      rw [if_neg (by decide), x1] at rC
      simp only [Option.bind_some] at rC
      rw [if_pos s7, if_pos (by rw [x4]; rfl), s_r_is (by omega) ⟨Int.le_refl _, by decide⟩, decide_eq_true kz] at rC
      simp only [Option.bind_some] at rC
      rw [if_neg b2i_n, if_pos trivial, st_bad0 _ _ (by rw [up_F (by decide), up_eq]; decide)] at rC
      rw [if_pos t1, m_failed (by omega)]
      simp only [Option.bind_some]
      rw [m_halt _ (by rw [up_F (by decide), up_eq]; decide)]
      refine ⟨-1, _, _, rC, rfl, ?_, ?_, ?_, ?_, Or.inl ⟨?_, rfl, ?_, ?_⟩⟩
      · exact fr_trans (fr_sub x2 (mem_all (by decide))) (fr_trans (fr_u (mmL (by decide))) (fr_u (mmL (by decide))))
      · exact fr_trans (fr_u (mmL (by decide))) (fr_u (mmL (by decide)))
      · exact SLT_f (SLT_f I.2.2.2.2.2.1.1 (fun F hF => fr_no x2 (M := slF3) (by decide) hF)) (fun F hF => fr_no (fr_trans (fr_u (L := [fR_fault, fR_where]) (by decide)) (fr_u (mmL (by decide)))) (M := slF3) (by decide) hF)
      · rw [up_F (by decide), up_F (by decide)]; exact hY
      · rw [up_F (by decide), up_eq]; decide
      · rw [up_F (by decide), up_eq, up_F (by decide), up_eq]
      · rw [up_eq, up_eq, pz]; exact p1
    · exact absurd (B.1.symm.trans k8) (by decide)
  · have t1 : τ fM_token 0 0 ≠ 1 := by
      have r := (hR.2.2.2.2.2.1 0 (by omega)).2.1
      have q := (hR.2.2.2.2.2.2.1 0 (by omega)).1
      rw [show ((0 : Nat) : Int) = 0 from rfl] at r
      rw [r, show (1 : Int) = cdM 8 from rfl]
      exact fun z => q ((cdM_inj tkK_r (by decide)).mp z)
    rw [if_neg t1]
    exact st_loop hd (by omega) (M + 1) 0 σ1 τ1 g 0 (by omega) S0

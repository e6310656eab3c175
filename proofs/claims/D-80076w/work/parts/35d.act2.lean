/-! the act of a definition, both sides -/
/-- one column of adjectives more, a defined one -/
theorem rowT_def {σ τ σ' τ' : ga_S} {F : Nat} {base r A : Int} (h : rowT σ τ F base r) (hA : A = σ fW_adjectives 0 0) (h0 : ∀ a, 0 ≤ a → a < A → σ fW_contraries 0 a = -1 ∨ (0 ≤ σ fW_contraries 0 a ∧ σ fW_contraries 0 a < A)) (ht : σ' fW_told = σ fW_told) (h1 : σ' fW_adjectives 0 0 = A + 1) (h2 : ∀ i, σ' fW_contraries 0 i = if i = A then -1 else σ fW_contraries 0 i) (hF : τ' F = τ F) (hA' : 0 ≤ A ∧ A < 24) : rowT σ' τ' F base r := by
  intro a a0 a1
  have x := h a a0 a1
  rw [ht, hF, h1, h2]
  refine ⟨x.1, ?_⟩
  by_cases c : a = A
  · right
    rw [if_pos c]
    rcases x.2 with y | y
    · exact absurd y.1 (by omega)
    · exact ⟨Or.inr rfl, y.2⟩
  · rw [if_neg c]
    rcases x.2 with y | y
    · left
      refine ⟨by omega, y.2.1, ?_, y.2.2.2⟩
      rw [y.2.2.1]
      unfold tv
      rw [ht, h2, if_neg c]
    · right
      refine ⟨?_, y.2⟩
      rcases y.1 with w | w
      · left; omega
      · right; exact w
section
variable {σ τ : ga_S} {f : Int} {N : Nat}
def a2C : List Nat := [fW_adjectiveKinds, fW_contraries, fW_adjectives, fW_defined, fR_draft] ++ dicL ++ spL
def a2M : List Nat := adX ++ [fM_definedFrom, fM_tests] ++ lexL
theorem act_2 (E : E0 σ τ f N) {g : Int} (D : DW σ τ g) (R5 : RW5 σ τ) (hs : σ fR_sort 0 0 = 2) (ht : τ fM_sort 0 0 = 2) (R0 : RU σ τ f N 0 (σ fR_runFrom 0 0) (σ fR_runTo 0 0)) (R1 : RU σ τ f N 1 (σ fR_runFrom 0 1) (σ fR_runTo 0 1)) (l1 : σ fR_runFrom 0 1 < σ fR_runTo 0 1) (hk : σ fR_kind0 0 0 = dN σ (nR σ 0) 0) (hk1 : dN σ (nR σ 0) 0 ≠ -1) (w0 : nB σ (wC σ 1) [] = true) (hA : σ fW_adjectives 0 0 < 24) (hq : 0 ≤ τ fM_tests 0 0 ∧ τ fM_tests 0 0 ≤ 700) (hw : 1 ≤ τ fM_tShown 0 0 ∧ τ fM_tShown 0 0 ≤ 6) {d : Nat} (hd : 5 ≤ d) (first : Int) : ∃ σ' τ', c_r_act (d + 2) σ = some (1, σ') ∧ c_m_does1 (d + 2) τ first = some (0, τ') ∧ fr a2C σ σ' ∧ fr a2M τ τ' ∧ WK σ' τ' ∧ RW5 σ' τ' ∧ DW σ' τ' g ∧ tkS σ σ' ∧ σ' fW_adjectives 0 0 = σ fW_adjectives 0 0 + 1 ∧ (∀ i, σ' fW_adjectiveKinds 0 i = if i = σ fW_adjectives 0 0 then dN σ (nR σ 0) 0 else σ fW_adjectiveKinds 0 i) ∧ (∀ i, σ' fW_contraries 0 i = if i = σ fW_adjectives 0 0 then -1 else σ fW_contraries 0 i) ∧ (∀ i, σ' fW_defined 0 i = if i = σ fW_adjectives 0 0 then σ fR_draft 0 0 else σ fW_defined 0 i) ∧ σ' fR_draft 0 0 = σ fW_defined 0 (σ fW_adjectives 0 0) ∧ (∀ i, τ' fM_definedFrom 0 i = if i = σ fW_adjectives 0 0 then τ fM_tests 0 0 else τ fM_definedFrom 0 i) ∧ (∀ i, τ' fM_definedTests 0 i = if i = σ fW_adjectives 0 0 then τ fM_tShown 0 0 else τ fM_definedTests 0 i) ∧ τ' fM_tests 0 0 = τ fM_tests 0 0 + τ fM_tShown 0 0 := by
  have E' := E
  obtain ⟨E1, E2, E3, E4⟩ := E
  have ET : ENV σ τ f N ∧ TOK σ τ f N := ⟨E1, E2⟩
  obtain ⟨Wk, Wo, Wa, Wt, Wv, Wp, Wr, Wb, Wc, Wd, Wl⟩ := E4
  obtain ⟨A, eA⟩ : ∃ x, x = σ fW_adjectives 0 0 := ⟨_, rfl⟩
  obtain ⟨K, eK⟩ : ∃ x, x = dN σ (nR σ 0) 0 := ⟨_, rfl⟩
  have a2 := Wa.1
  have eM' : τ fM_adjectives 0 0 = A := by rw [Wa.2.2.1, eA]
  have kb := e0_dN E' (nR σ 0) 0
  have m0 : mxN σ 0 = σ fW_kinds 0 0 := rfl
  rw [← eK] at kb hk hk1 ⊢
  rw [← eA] at hA a2 ⊢
  -- the component
  obtain ⟨ρ, eρ⟩ : ∃ x, x = ga_up (ga_up σ fW_adjectiveKinds 0 A K) fW_contraries 0 A (-1) := ⟨_, rfl⟩
  have f1 : fr [fW_adjectiveKinds, fW_contraries] σ ρ := by rw [eρ]; exact fr_trans (fr_u (by decide)) (fr_u (by decide))
  have sw := e_r_swap_defined d ρ A
  rw [ck_ok _ ⟨by omega, hA⟩, ck_ok _ ⟨by omega, hA⟩, f1 fW_defined (by decide), f1 fR_draft (by decide)] at sw
  obtain ⟨ρ1, e1⟩ : ∃ x, x = ga_up (ga_up ρ fW_defined 0 A (σ fR_draft 0 0)) fR_draft 0 0 (σ fW_defined 0 A) := ⟨_, rfl⟩
  rw [← e1] at sw
  have f2 : fr [fW_defined, fR_draft] ρ ρ1 := by rw [e1]; exact fr_trans (fr_u (by decide)) (fr_u (by decide))
  obtain ⟨ρ2, e2⟩ : ∃ x, x = ga_up ρ1 fW_adjectives 0 0 (A + 1) := ⟨_, rfl⟩
  have f3 : fr [fW_adjectives] ρ1 ρ2 := by rw [e2]; exact fr_u (by decide)
  have f02 : fr [fW_adjectiveKinds, fW_contraries, fW_adjectives, fW_defined, fR_draft] σ ρ2 := fr_trans (fr_sub f1 (by decide)) (fr_trans (fr_sub f2 (by decide)) (fr_sub f3 (by decide)))
  have b3 : ρ2 fW_adjectives 0 0 = A + 1 := by rw [e2, up_eq]
  have b4 : ∀ i, ρ2 fW_adjectiveKinds 0 i = if i = A then K else σ fW_adjectiveKinds 0 i := by
    intro i; rw [f3 _ (by decide), f2 _ (by decide), eρ, up_F (by decide), up_at]
  have b5 : ∀ i, ρ2 fW_contraries 0 i = if i = A then -1 else σ fW_contraries 0 i := by
    intro i; rw [f3 _ (by decide), f2 _ (by decide), eρ, up_at, up_F (by decide)]
  have b6 : ∀ i, ρ2 fW_defined 0 i = if i = A then σ fR_draft 0 0 else σ fW_defined 0 i := by
    intro i; rw [f3 _ (by decide), e1, up_F (by decide), up_at, f1 _ (by decide)]
  have b7 : ρ2 fR_draft 0 0 = σ fW_defined 0 A := by rw [f3 _ (by decide), e1, up_eq]
  -- the model
  obtain ⟨τ1, c1, c2, c3, c4, c5, c6⟩ := m_addAdjective (τ := τ) (k := K) (o := -1) eM'.symm (by omega) hA (d := d) (by omega)
  obtain ⟨τ2, g2⟩ : ∃ x, x = ga_up (ga_up (ga_up τ1 fM_definedFrom 0 A (τ fM_tests 0 0)) fM_definedTests 0 A (τ fM_tShown 0 0)) fM_tests 0 0 (τ fM_tests 0 0 + τ fM_tShown 0 0) := ⟨_, rfl⟩
  have h2 : fr [fM_definedFrom, fM_definedTests, fM_tests] τ1 τ2 := by rw [g2]; exact fr_trans (fr_u (by decide)) (fr_trans (fr_u (by decide)) (fr_u (by decide)))
  have h02 : fr (adX ++ [fM_definedFrom, fM_tests]) τ τ2 := fr_trans (fr_sub c2 (by decide)) (fr_sub h2 (by decide))
  have y1 : ∀ i, τ2 fM_definedFrom 0 i = if i = A then τ fM_tests 0 0 else τ fM_definedFrom 0 i := by
    intro i; rw [g2, up_F (by decide), up_F (by decide), up_at, c2 _ (by decide)]
  have y2 : ∀ i, τ2 fM_definedTests 0 i = if i = A then τ fM_tShown 0 0 else τ fM_definedTests 0 i := by
    intro i; rw [g2, up_F (by decide), up_at, up_F (by decide), c6]
    by_cases c : i = A
    · rw [if_pos c, if_pos c]
    · rw [if_neg c, if_neg c, if_neg c]
  have y3 : τ2 fM_tests 0 0 = τ fM_tests 0 0 + τ fM_tShown 0 0 := by rw [g2, up_eq]
  -- the word
  have B2 : cB ρ2 := by
    have B := D.2.2.2.2.1
    unfold cB at B ⊢
    rw [f02 fW_kinds (by decide), f02 fW_objects (by decide), b3, f02 fW_types (by decide), f02 fW_values (by decide), f02 fW_properties (by decide), f02 fW_relations (by decide), f02 fW_verbs (by decide), f02 fW_actions (by decide)]
    exact ⟨B.1, B.2.1, by omega, B.2.2.2⟩
  have D2 : DW ρ2 τ2 g := DW_cm D (fr_mem f02 (by decide)) (cnt_1 f02 fW_adjectives (by decide) (by rw [b3, ← eA]; omega)) (fr_mem h02 (by decide)) B2
  have S2 : tkS σ ρ2 := tkS_g (tkS_r σ) f02 (by decide) (GC_g f02 (by decide) (cnt_1 f02 fW_adjectives (by decide) (by rw [b3, ← eA]; omega)) (Or.inl (by decide)) (by decide) (Or.inr (fun a a0 a1 => by rw [← eA] at a1; rw [b4, b5, if_neg (by omega), if_neg (by omega)]; exact ⟨rfl, rfl⟩)) (Or.inl (by decide)) (Or.inl (by decide)) (Or.inl (by decide)))
  have T2 := tkT_f (tkT_r τ) h02 (by decide)
  have dic2 := dic_c (fr_mem f02 (M := dicL) (by decide))
  have n0 := nB_1 w0
  have len0 : σ fR_runTo 0 1 - σ fR_runFrom 0 1 ≤ 3 := by have := wsT_len (σ := σ) R1.2.2.2.2.1; have := n0.1; unfold wC at this; omega
  have mx3 : mxN ρ2 3 = A + 1 := b3
  obtain ⟨σ', τ', d1, d2, d3, d4, d5, d6, d7⟩ := tell_J ET S2 T2 D2 (s := 3) (n := A) R1 l1 len0 (by rw [dic2.1]; exact n0.2.1) (by omega) (by omega) (by omega) (by omega) (fun k l e => by
      have l' : live σ k := by unfold live at l ⊢; rw [f02 fD_count (by decide), f02 fD_sorts (by decide)] at l; exact l
      have x := (Wd k l').1
      rw [f02 fD_sorts (by decide)] at e
      rw [e] at x
      rw [f02 fD_numbers (by decide)]
      have x' : σ fD_numbers 0 k < σ fW_adjectives 0 0 := x
      omega) (d := d + 1) (d' := d) (by omega) (by omega)
  have fC : fr a2C σ σ' := fr_trans (fr_sub f02 (by decide)) (fr_sub d3.1 (by decide))
  have fM : fr a2M τ τ' := fr_trans (fr_sub h02 (by decide)) (fr_sub d4.1 (by decide))
  have hC : c_r_act (d + 2) σ = some (1, σ') := by
    rw [e_r_act, hs]
    iterate 2 rw [if_neg (by decide)]
    rw [if_pos rfl, ← eA, ck_ok _ ⟨by omega, hA⟩, ck_ok _ ⟨by omega, hA⟩, hk, ← eρ, sw]
    simp only [Option.bind_some]
    have ea1 : ρ1 fW_adjectives 0 0 = A := by rw [f2 _ (by decide), f1 _ (by decide)]; exact eA.symm
    rw [ea1, w32_ok (x := A + 1) (by omega), ← e2, f2 fR_runFrom (by decide), f2 fR_runTo (by decide), f1 fR_runFrom (by decide), f1 fR_runTo (by decide), d1]
    rfl
  have hM : c_m_does1 (d + 2) τ first = some (0, τ') := by
    have me := m_meansA ET (tkT_r τ) E3 R0 (d := d) (by omega) 0
    have kd : mN σ (nmT σ (σ fR_runFrom 0 0) (σ fR_runTo 0 0)) 0 = K := by rw [mN_dN (s := 0) (by omega)]; exact eK.symm
    rw [kd] at me
    have d2' : c_m_tellRun d τ2 5 A 1 = some (0, τ') := by
      have e5 : sM 3 A = 5 := rfl
      have e6 : iM 3 A = A := by unfold iM; rw [if_neg (by omega)]
      rw [e5, e6] at d2; exact d2
    have dd : c_m_doDefined (d + 1) τ = some (0, τ') := by
      rw [e_m_doDefined, me]
      simp only [Option.bind_some]
      rw [c1]
      simp only [Option.bind_some]
      rw [ck_ok _ ⟨by omega, hA⟩, ck_ok _ ⟨by omega, hA⟩, c2 fM_tests (by decide), c2 fM_tShown (by decide), w32_ok (x := τ fM_tests 0 0 + τ fM_tShown 0 0) (by omega), ← g2, d2']
      rfl
    rw [e_m_does1, ht]
    iterate 2 rw [if_neg (by decide)]
    rw [if_pos rfl, dd]
    rfl
  have xk : ∀ i, σ' fW_adjectiveKinds 0 i = if i = A then K else σ fW_adjectiveKinds 0 i := by
    intro i; rw [d3.1 _ (by decide)]; exact b4 i
  have xc : ∀ i, σ' fW_contraries 0 i = if i = A then -1 else σ fW_contraries 0 i := by
    intro i; rw [d3.1 _ (by decide)]; exact b5 i
  have xn : σ' fW_adjectives 0 0 = A + 1 := by rw [d3.1 _ (by decide)]; exact b3
  have yk : ∀ i, τ' fM_adjectiveKind 0 i = if i = A then K else τ fM_adjectiveKind 0 i := by
    intro i; rw [d4.1 _ (by decide), h2 _ (by decide)]; exact c4 i
  have yc : ∀ i, τ' fM_contrary 0 i = if i = A then -1 else τ fM_contrary 0 i := by
    intro i; rw [d4.1 _ (by decide), h2 _ (by decide)]; exact c5 i
  have yd : ∀ i, τ' fM_definedTests 0 i = if i = A then τ fM_tShown 0 0 else τ fM_definedTests 0 i := by
    intro i; rw [d4.1 _ (by decide)]; exact y2 i
  have yn : τ' fM_adjectives 0 0 = A + 1 := by rw [d4.1 _ (by decide), h2 _ (by decide)]; exact c3
  have Wa' : WKa σ' τ' := by
    refine ⟨by omega, by omega, by omega, fun a z0 z1 => ?_⟩
    rw [fC fW_kinds (by decide)]
    by_cases q1 : a = A
    · rw [xk, if_pos q1, yk, if_pos q1]
      refine ⟨⟨by omega, by omega, rfl⟩, Or.inl ?_⟩
      rw [xc, if_pos q1, yc, if_pos q1, yd, if_pos q1]
      exact ⟨rfl, rfl, hw.1, hw.2⟩
    · have o := Wa.2.2.2 a z0 (by omega)
      rw [xk, if_neg q1, yk, if_neg q1, xc a, if_neg q1, yc, if_neg q1, yd, if_neg q1, xn]
      refine ⟨o.1, ?_⟩
      rcases o.2 with y | y
      · exact Or.inl y
      · right
        rw [xc (σ fW_contraries 0 a), if_neg (by omega), xk, if_neg (by omega)]
        exact ⟨y.1, by omega, y.2.2⟩
  refine ⟨σ', τ', hC, hM, fC, fM, ⟨WKk_f Wk (fr_mem fC (by decide)) (fr_mem fM (by decide)), WKo_f Wo (fr_mem fC (by decide)) (fr_mem fM (by decide)), Wa', WKt_f Wt (fr_mem fC (by decide)) (fr_mem fM (by decide)), WKv_f Wv (fr_mem fC (by decide)) (fr_mem fM (by decide)), WKp_f Wp (fr_mem fC (by decide)) (fr_mem fM (by decide)), WKr_f Wr (fr_mem fC (by decide)) (fr_mem fM (by decide)), WKb_f Wb (fr_mem fC (by decide)) (fr_mem fM (by decide)), WKc_f Wc (fr_mem fC (by decide)) (fr_mem fM (by decide)), d5.2.1, d5.2.2.1⟩, ⟨?_, RWh_f R5.2.1 (fr_mem fC (by decide)) (by rw [fC fT_size (by decide), fC fT_bytes (by decide)]; exact ⟨rfl, rfl⟩) (fr_mem fM (by decide)), RWp_f R5.2.2.1 (fr_mem fC (by decide)) (fr_mem fM (by decide)), RWy_f R5.2.2.2.1 (fr_mem fC (by decide)) (fr_mem fM (by decide)), RWe_f R5.2.2.2.2 (fr_mem fC (by decide)) (fr_mem fM (by decide))⟩, d5, d6, xn, xk, xc, fun i => by rw [d3.1 _ (by decide)]; exact b6 i, by rw [d3.1 _ (by decide)]; exact b7, fun i => by rw [d4.1 _ (by decide)]; exact y1 i, yd, by rw [d4.1 _ (by decide)]; exact y3⟩
  obtain ⟨t1, t2, t3⟩ := R5.1
  have cr : ∀ a, 0 ≤ a → a < A → σ fW_contraries 0 a = -1 ∨ (0 ≤ σ fW_contraries 0 a ∧ σ fW_contraries 0 a < A) := by
    intro a x y
    rcases (Wa.2.2.2 a x (by omega)).2 with z | z
    · exact Or.inl z.1
    · exact Or.inr ⟨z.1, by omega⟩
  refine ⟨?_, ?_, ?_⟩
  · intro o o0 o1
    rw [fC fW_objects (by decide)] at o1
    exact rowT_def (t1 o o0 o1) eA cr (fC _ (by decide)) xn xc (fM _ (by decide)) ⟨by omega, hA⟩
  · intro k k0 k1
    rw [fC fW_kinds (by decide)] at k1
    exact rowT_def (t2 k k0 k1) eA cr (fC _ (by decide)) xn xc (fM _ (by decide)) ⟨by omega, hA⟩
  · intro r a h
    rw [fC fW_objects (by decide), fC fW_kinds (by decide)] at h
    rw [fC fW_told (by decide)]
    exact t3 r a h
end
/-- the definitions with one more: σ before the check, σ1 behind it, σ2 behind the act -/
theorem RL_def {σ τ σ1 τ1 σ2 τ2 : ga_S} {K S : Int} (h : RL σ τ) (W : WK σ τ) (R : RD σ τ) (k : KC σ σ1) (fM : KM τ τ1) (hq : ∀ F, F ∈ qL → ∀ j, j < τ fM_tests 0 0 ∨ τ fM_tests 0 0 + S ≤ j → τ1 F 0 j = τ F 0 j) (fr9 : ∀ F, F ∈ fM_ruleAdjective :: ruL9 ++ xL → τ1 F = τ F) (hK : 0 ≤ K ∧ K < σ fW_kinds 0 0) (hS : 1 ≤ S ∧ S ≤ 6) (hA : σ fW_adjectives 0 0 < 24) (hs1 : σ1 fQ_tests (σ fR_draft 0 0) 0 = S) (hst : ∀ j, 0 ≤ j → j < S → stT σ K (-1) false σ1 τ1 (14 * σ fR_draft 0 0 + j) (τ fM_tests 0 0 + j)) (f2 : fr a2C σ1 σ2) (m2 : fr a2M τ1 τ2) (G : GC σ σ2) (D : GD σ σ2) (K2 : kdR σ2) (e1 : σ2 fW_adjectives 0 0 = σ fW_adjectives 0 0 + 1) (e2 : ∀ i, σ2 fW_adjectiveKinds 0 i = if i = σ fW_adjectives 0 0 then K else σ fW_adjectiveKinds 0 i) (e3 : ∀ i, σ2 fW_contraries 0 i = if i = σ fW_adjectives 0 0 then -1 else σ fW_contraries 0 i) (e4 : ∀ i, σ2 fW_defined 0 i = if i = σ fW_adjectives 0 0 then σ fR_draft 0 0 else σ fW_defined 0 i) (e5 : σ2 fR_draft 0 0 = σ fW_defined 0 (σ fW_adjectives 0 0)) (e6 : ∀ i, τ2 fM_definedFrom 0 i = if i = σ fW_adjectives 0 0 then τ fM_tests 0 0 else τ fM_definedFrom 0 i) (e7 : ∀ i, τ2 fM_definedTests 0 i = if i = σ fW_adjectives 0 0 then S else τ fM_definedTests 0 i) (e8 : τ2 fM_tests 0 0 = τ fM_tests 0 0 + S) : RL σ2 τ2 := by
  obtain ⟨h1, h2, h3, h4, h5, h6⟩ := h
  have Z : GZ σ σ2 := ⟨G, kdR_W W, K2⟩
  have nr := nmR_D R W.2.2.2.2.2.2.2.2.2.1
  obtain ⟨A, eA⟩ : ∃ x, x = σ fW_adjectives 0 0 := ⟨_, rfl⟩
  have A0 := W.2.2.1.1
  have kc : ∀ F, F ∈ [fW_rules, fW_rule] → σ1 F = σ F := fun F hF => k.1 F (mem_no (L := [fW_rules, fW_rule]) (by decide) F hF)
  have kr := kc fW_rules (by decide)
  have kr2 := kc fW_rule (by decide)
  have r1 : σ2 fW_rules = σ fW_rules := by rw [f2 _ (by decide), kr]
  have r2 : σ2 fW_rule = σ fW_rule := by rw [f2 _ (by decide), kr2]
  have mr : τ2 fM_rules = τ fM_rules := by rw [m2 _ (by decide), fM _ (by decide)]
  have mp : τ2 fM_phrases = τ fM_phrases := by rw [m2 _ (by decide), fM _ (by decide)]
  have q2 : ∀ F, F ∈ quL → σ2 F = σ1 F := fr_mem f2 (by decide)
  have s2 : ∀ F, F ∈ stL → σ2 F = σ1 F := fr_mem f2 (by decide)
  have m9 : ∀ F, F ∈ fM_ruleAdjective :: ruL9 ++ xL → τ2 F = τ F := fun F hF => by rw [fr_no m2 (M := fM_ruleAdjective :: ruL9 ++ xL) (by decide) hF]; exact fr9 F hF
  have mq : ∀ F, F ∈ qL → ∀ j, j < τ fM_tests 0 0 ∨ τ fM_tests 0 0 + S ≤ j → τ2 F 0 j = τ F 0 j := fun F hF j hj => by rw [fr_no m2 (M := qL) (by decide) hF]; exact hq F hF j hj
  have mq1 : ∀ F, F ∈ qL → τ2 F = τ1 F := fun F hF => fr_no m2 (M := qL) (by decide) hF
  rw [← eA] at hA e1 e2 e3 e4 e5 e6 e7 h3 h6
  refine ⟨SLT_swap h1 (p := A + 24) (by omega) (by omega) (fun i i0 i1 => ?_), by rw [mr, r1]; exact h2, by rw [e8, r1, e1]; omega, by rw [mp, r1]; exact h4, fun l l0 l1 => ?_, fun a a0 a1 => ?_⟩
  · unfold sl
    rw [r2, e4, e5]
    by_cases c : i < 24
    · rw [if_pos c, if_pos c, if_neg (by omega), if_neg (by omega)]
    · rw [if_neg c, if_neg c]
      by_cases c2 : i < 48
      · rw [if_pos c2, if_pos c2]
        by_cases c3 : i = A + 24
        · rw [if_pos (by omega), if_pos c3, if_neg (by omega), if_neg (by omega)]
        · rw [if_neg (by omega), if_neg c3, if_neg (by omega)]
      · rw [if_neg c2, if_neg c2, if_neg (by omega), if_pos (by omega), if_neg (by omega), if_pos (by omega), show A + 24 - 24 = A by omega]
  · rw [r1] at l1
    rw [r2]
    obtain ⟨nk', x1, x2⟩ := h5 l l0 l1
    have kr := KC_rows k (SLT_br h1 l0 (by omega : l < 24)) (SLT_rd h1 l0 (by omega))
    have y := ruG_rows x2 (σ' := σ2) (τ' := τ2) (fun F hF => by rw [q2 F hF]; exact kr.1 F hF) (fun F hF s s0 s1 => by rw [s2 F hF]; exact kr.2 F hF s s0 s1) (fun F hF => by rw [m9 F (mem_all (L := ruL9) (by decide) F hF)]) (fun i i0 i1 => by rw [m9 _ (by decide)]) (fun F hF j k1 => mq F hF j (Or.inl k1)) (fun F hF j k1 => by rw [m9 F (mem_all (L := xL) (by decide) F hF)]) (by omega) (by rw [mp]; exact Int.le_refl _)
    exact ruG_g Z D nr x1 y
  · rw [e1] at a1
    intro e
    rw [e3] at e
    by_cases c : a = A
    · rw [e4, if_pos c, e6, if_pos c, e7, if_pos c, e2, if_pos c, q2 fQ_tests (by decide), hs1, e8]
      refine ⟨⟨rfl, hS.1, hS.2⟩, ⟨h3.1, Int.le_refl _⟩, fun j j0 j1 => ?_⟩
      exact stT_g Z (Or.inr hK) (Or.inl ⟨rfl, rfl⟩) (stT_rows (hst j j0 j1) (fun F hF => by rw [s2 F hF]) (fun F hF => by rw [mq1 F hF]))
    · rw [if_neg c] at e
      have x := h6 a a0 (by omega) e
      have bd := SLT_bd h1 a0 (by omega : a < 24)
      have kr := KC_rows k bd (SLT_dd h1 a0 (by omega))
      rw [e4, if_neg c, e6, if_neg c, e7, if_neg c, e2, if_neg c, q2 fQ_tests (by decide), kr.1 fQ_tests (by decide), e8]
      refine ⟨x.1, ⟨x.2.1.1, by omega⟩, fun j j0 j1 => ?_⟩
      have wa := (W.2.2.1.2.2.2 a a0 (by omega)).1
      exact stT_g Z (Or.inr ⟨wa.1, wa.2.1⟩) (Or.inl ⟨rfl, rfl⟩) (stT_rows (x.2.2 j j0 j1) (fun F hF => by rw [s2 F hF]; exact kr.2 F hF _ (by omega) (by omega)) (fun F hF => mq F hF _ (Or.inl (by omega))))

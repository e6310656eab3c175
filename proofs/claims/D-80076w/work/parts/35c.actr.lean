/-! the acts of rules and of definitions -/
section
variable {σ τ σ1 τ1 : ga_S} {f : Int} {N : Nat}
theorem act_ru (hs : 3 ≤ σ1 fR_sort 0 0 ∧ σ1 fR_sort 0 0 ≤ 6) (ht : τ1 fM_sort 0 0 = σ1 fR_sort 0 0) (hr : 0 ≤ σ1 fW_rules 0 0 ∧ σ1 fW_rules 0 0 < 24) {d : Nat} (hd : 1 ≤ d) (first : Int) : ∃ σ2, c_r_act (d + 1) σ1 = some (1, σ2) ∧ c_m_does1 (d + 1) τ1 first = some (0, τ1) ∧ fr [fW_rules, fW_rule, fR_draft] σ1 σ2 ∧ σ2 fW_rules 0 0 = σ1 fW_rules 0 0 + 1 ∧ (∀ i, σ2 fW_rule 0 i = if i = σ1 fW_rules 0 0 then σ1 fR_draft 0 0 else σ1 fW_rule 0 i) ∧ σ2 fR_draft 0 0 = σ1 fW_rule 0 (σ1 fW_rules 0 0) := by
  obtain ⟨d, rfl⟩ : ∃ e, d = e + 1 := ⟨d - 1, by omega⟩
  obtain ⟨r, er⟩ : ∃ x, x = σ1 fW_rules 0 0 := ⟨_, rfl⟩
  obtain ⟨ρ, eρ⟩ : ∃ x, x = ga_up σ1 fW_rules 0 0 (r + 1) := ⟨_, rfl⟩
  have f1 : fr [fW_rules] σ1 ρ := by rw [eρ]; exact fr_u (by decide)
  have sw := e_r_swap_rule d ρ r
  rw [← er] at hr
  rw [ck_ok _ hr, ck_ok _ hr, f1 fW_rule (by decide), f1 fR_draft (by decide)] at sw
  obtain ⟨σ2, e2⟩ : ∃ x, x = ga_up (ga_up ρ fW_rule 0 r (σ1 fR_draft 0 0)) fR_draft 0 0 (σ1 fW_rule 0 r) := ⟨_, rfl⟩
  rw [← e2] at sw
  have f2 : fr [fW_rule, fR_draft] ρ σ2 := by rw [e2]; exact fr_trans (fr_u (by decide)) (fr_u (by decide))
  have wr : w32 (r + 1) = r + 1 := w32_ok (by omega)
  refine ⟨σ2, ?_, ?_, fr_trans (fr_sub f1 (by decide)) (fr_sub f2 (by decide)), ?_, fun i => ?_, ?_⟩
  · have top : ((c_r_swap_rule (d + 1) (ga_up σ1 fW_rules 0 0 (w32 ((σ1 fW_rules 0 0) + 1))) (σ1 fW_rules 0 0)).bind fun q24 => some ((1 : Int), q24.2)) = some (1, σ2) := by
      rw [← er, wr, ← eρ, sw]
      rfl
    have q : σ1 fR_sort 0 0 = 3 ∨ σ1 fR_sort 0 0 = 4 ∨ σ1 fR_sort 0 0 = 5 ∨ σ1 fR_sort 0 0 = 6 := by omega
    rw [e_r_act]
    rcases q with z | z | z | z
    · rw [z]
      iterate 3 rw [if_neg (by decide)]
      rw [if_pos rfl]; exact top
    · rw [z]
      iterate 4 rw [if_neg (by decide)]
      rw [if_pos rfl]; exact top
    · rw [z]
      iterate 5 rw [if_neg (by decide)]
      rw [if_pos rfl]; exact top
    · rw [z]
      iterate 6 rw [if_neg (by decide)]
      rw [if_pos rfl]; exact top
  · have q : σ1 fR_sort 0 0 = 3 ∨ σ1 fR_sort 0 0 = 4 ∨ σ1 fR_sort 0 0 = 5 ∨ σ1 fR_sort 0 0 = 6 := by omega
    rw [e_m_does1, ht]
    rcases q with z | z | z | z
    · rw [z]
      iterate 3 rw [if_neg (by decide)]
      rw [if_pos rfl]
    · rw [z]
      iterate 4 rw [if_neg (by decide)]
      rw [if_pos rfl]
    · rw [z]
      iterate 5 rw [if_neg (by decide)]
      rw [if_pos rfl]
    · rw [z]
      iterate 6 rw [if_neg (by decide)]
      rw [if_pos rfl]
  · rw [f2 _ (by decide), eρ, up_eq, er]
  · rw [e2, up_F (by decide), up_at, f1 _ (by decide), er]
  · rw [e2, up_eq, er]
/-- other rows than the draft's stay while a sentence is checked -/
theorem KC_rows {n : Int} (K : KC σ σ1) (hn : 0 ≤ n ∧ n < 49) (hd : n ≠ σ fR_draft 0 0) : (∀ F, F ∈ quL → σ1 F n = σ F n) ∧ ∀ F, F ∈ stL → ∀ s, 14 * n ≤ s → s < 14 * n + 14 → σ1 F s = σ F s := by
  refine ⟨fun F hF => K.2.2.2 F hF n hd, fun F hF s s0 s1 => K.2.2.1 F hF s ?_⟩
  unfold inD
  omega
/-- the rules with one more -/
theorem RL_rule {σ2 : ga_S} (h : RL σ τ) (W : WK σ τ) (R : RD σ τ) (K : KC σ σ1) (fM : fr ckN τ τ1) (hk : ruK τ τ1) {nk : Int} (hnk : kO σ nk) (g : ruG σ nk σ1 τ1 (σ fR_draft 0 0) (τ fM_rules 0 0)) (hr : τ fM_rules 0 0 < 24) (hr1 : τ1 fM_rules 0 0 = τ fM_rules 0 0 + 1) (ht : τ1 fM_tests 0 0 = τ fM_tests 0 0 + σ1 fQ_tests (σ fR_draft 0 0) 0 + σ1 fQ_phrases (σ fR_draft 0 0) 0) (hp : τ1 fM_phrases 0 0 = τ fM_phrases 0 0 + σ1 fQ_phrases (σ fR_draft 0 0) 0) (f2 : fr [fW_rules, fW_rule, fR_draft] σ1 σ2) (e1 : σ2 fW_rules 0 0 = σ1 fW_rules 0 0 + 1) (e2 : ∀ i, σ2 fW_rule 0 i = if i = σ1 fW_rules 0 0 then σ1 fR_draft 0 0 else σ1 fW_rule 0 i) (e3 : σ2 fR_draft 0 0 = σ1 fW_rule 0 (σ1 fW_rules 0 0)) : RL σ2 τ1 := by
  obtain ⟨h1, h2, h3, h4, h5, h6⟩ := h
  have kc : ∀ F, F ∈ [fW_rules, fW_rule, fW_defined, fR_draft] → σ1 F = σ F := fun F hF => K.1 F (mem_no (L := [fW_rules, fW_rule, fW_defined, fR_draft]) (by decide) F hF)
  have k1 := kc fW_rules (by decide)
  have k2 := kc fW_rule (by decide)
  have k3 := kc fW_defined (by decide)
  have k4 := kc fR_draft (by decide)
  obtain ⟨r, er⟩ : ∃ x, x = σ fW_rules 0 0 := ⟨_, rfl⟩
  rw [h2.1] at g hr hr1
  rw [k1, ← er] at e1
  rw [k1, k2, k4, ← er] at e2
  rw [k1, k2, ← er] at e3
  rw [← er] at h2 h3 h4 h5 g hr hr1
  have fC : fr ([fW_rules, fW_rule, fR_draft] ++ ckC) σ σ2 := fr_trans (fr_sub K.1 (fun F hF => List.mem_append_right _ hF)) (fr_sub f2 (fun F hF => List.mem_append_left _ hF))
  have G : GC σ σ2 := GC_f (GC_r σ) fC (by decide)
  have D : GD σ σ2 := fun nm s _ _ => by rw [(dic_c (fr_mem fC (M := dicL) (by decide))).2.1]
  have kd := kdR_W W
  have kd2 : kdR σ2 := by
    unfold kdR at kd ⊢
    rw [fC fW_parents (by decide), fC fW_kinds (by decide), fC fW_objects (by decide), fC fW_kindOf (by decide)]
    exact kd
  have Z : GZ σ σ2 := ⟨G, kd, kd2⟩
  have nr := nmR_D R W.2.2.2.2.2.2.2.2.2.1
  have q2 : ∀ F, F ∈ quL → σ2 F = σ1 F := fr_mem f2 (by decide)
  have s2 : ∀ F, F ∈ stL → σ2 F = σ1 F := fr_mem f2 (by decide)
  have g3 := g.2.2.1
  have g4 := g.2.2.2.1
  have ba := fC fW_adjectives (by decide)
  refine ⟨SLT_swap h1 (p := r) (by omega) (by omega) (fun i i0 i1 => ?_), by rw [e1]; omega, by rw [e1, ba]; omega, by rw [e1]; omega, fun l l0 l1 => ?_, fun a a0 a1 => ?_⟩
  · unfold sl
    rw [fC fW_defined (by decide), e2, e3]
    by_cases c : i < 24
    · rw [if_pos c, if_pos c]
      by_cases c2 : i = r
      · rw [if_pos c2, if_pos c2, if_neg (by omega), if_neg (by omega)]
      · rw [if_neg c2, if_neg c2, if_neg (by omega)]
    · rw [if_neg c, if_neg c, if_neg (show ¬ i = r by omega)]
      by_cases c2 : i < 48
      · rw [if_pos c2, if_pos c2, if_neg (by omega)]
      · rw [if_neg c2, if_neg c2, if_pos (by omega), if_pos (by omega)]
  · rw [e2]
    by_cases c : l = r
    · rw [if_pos c, c]
      have y := ruG_rows g (σ' := σ2) (τ' := τ1) (fun F hF => by rw [q2 F hF]) (fun F hF s _ _ => by rw [s2 F hF]) (fun _ _ => rfl) (fun _ _ _ => rfl) (fun _ _ _ _ => rfl) (fun _ _ _ _ => rfl) (Int.le_refl _) (Int.le_refl _)
      exact ruG_g Z D nr hnk y
    · rw [if_neg c]
      obtain ⟨nk', x1, x2⟩ := h5 l l0 (by omega)
      have br := SLT_br h1 l0 (by omega : l < 24)
      have kr := KC_rows K br (SLT_rd h1 l0 (by omega))
      have y := ruG_rows x2 (σ' := σ2) (τ' := τ1) (fun F hF => by rw [q2 F hF]; exact kr.1 F hF) (fun F hF s s0 s1 => by rw [s2 F hF]; exact kr.2 F hF s s0 s1) (fun F hF => hk.1 F hF l (by omega)) (fun i i0 i1 => hk.2.1 i (by omega)) (fun F hF k k1 => hk.2.2.1 F hF k k1) (fun F hF k k1 => hk.2.2.2 F hF k k1) (by omega) (by omega)
      exact ruG_g Z D nr x1 y
  · rw [ba] at a1
    intro e
    rw [fC fW_contraries (by decide)] at e
    have x := h6 a a0 a1 e
    have a24 := W.2.2.1.2.1
    have bd := SLT_bd h1 a0 (by omega : a < 24)
    have kr := KC_rows K bd (SLT_dd h1 a0 (by omega))
    rw [fC fW_adjectiveKinds (by decide), fC fW_defined (by decide), q2 fQ_tests (by decide), kr.1 fQ_tests (by decide), fM fM_definedFrom (by decide), fM fM_definedTests (by decide)]
    refine ⟨x.1, ⟨x.2.1.1, by omega⟩, fun k k0 k1 => ?_⟩
    have wa := (W.2.2.1.2.2.2 a a0 a1).1
    exact stT_g Z (Or.inr ⟨wa.1, wa.2.1⟩) (Or.inl ⟨rfl, rfl⟩) (stT_rows (x.2.2 k k0 k1) (fun F hF => by rw [s2 F hF]; exact kr.2 F hF _ (by omega) (by omega)) (fun F hF => hk.2.2.1 F hF _ (by omega)))
end

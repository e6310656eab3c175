/-! the acts that tell a property -/
section
variable {σ τ : ga_S} {f : Int} {N : Nat}
def a9C : List Nat := stW ++ ntL
def a9M : List Nat := [fM_objectTold, fM_objectSays, fM_objectLong, fM_kindTold, fM_kindSays, fM_kindLong, fM_bestFault, fM_bestPlace]
/-- the world but for what is told of properties -/
theorem w_props (E4 : WK σ τ) (R5 : RW5 σ τ) {g : Int} (D : DW σ τ g) (kb : kb0 σ τ) {σ' τ' : ga_S} (fC : fr a9C σ σ') (fM : fr a9M τ τ') (Rh : RWh σ' τ') : WK σ' τ' ∧ RW5 σ' τ' ∧ DW σ' τ' g ∧ kb0 σ' τ' := by
  obtain ⟨Wk, Wo, Wa, Wt, Wv, Wp, Wr, Wb, Wc, Wd, Wl⟩ := E4
  have D' : DW σ' τ' g := DW_cm D (fr_mem fC (by decide)) (fun F hF => by rw [fr_mem fC (M := cntL) (by decide) F hF]; exact Int.le_refl _) (fr_mem fM (by decide)) (by
    have Bc := D.2.2.2.2.1
    unfold cB at Bc ⊢
    rw [fC fW_kinds (by decide), fC fW_objects (by decide), fC fW_types (by decide), fC fW_values (by decide), fC fW_properties (by decide), fC fW_adjectives (by decide), fC fW_relations (by decide), fC fW_verbs (by decide), fC fW_actions (by decide)]
    exact Bc)
  exact ⟨⟨WKk_f Wk (fr_mem fC (by decide)) (fr_mem fM (by decide)), WKo_f Wo (fr_mem fC (by decide)) (fr_mem fM (by decide)), WKa_f Wa (fr_mem fC (by decide)) (fr_mem fM (by decide)), WKt_f Wt (fr_mem fC (by decide)) (fr_mem fM (by decide)), WKv_f Wv (fr_mem fC (by decide)) (fr_mem fM (by decide)), WKp_f Wp (fr_mem fC (by decide)) (fr_mem fM (by decide)), WKr_f Wr (fr_mem fC (by decide)) (fr_mem fM (by decide)), WKb_f Wb (fr_mem fC (by decide)) (fr_mem fM (by decide)), WKc_f Wc (fr_mem fC (by decide)) (fr_mem fM (by decide)), D'.2.1, D'.2.2.1⟩, ⟨RWt_f R5.1 (fr_mem fC (by decide)) (fr_mem fM (by decide)), Rh, RWp_f R5.2.2.1 (fr_mem fC (by decide)) (fr_mem fM (by decide)), RWy_f R5.2.2.2.1 (fr_mem fC (by decide)) (fr_mem fM (by decide)), RWe_f R5.2.2.2.2 (fr_mem fC (by decide)) (fr_mem fM (by decide))⟩, D', kb0_f kb (fr_mem fC (by decide)) (fM _ (by decide))⟩
theorem act_9 (E : E0 σ τ f N) {g : Int} (D : DW σ τ g) (R5 : RW5 σ τ) (kb : kb0 σ τ) (hst : τ fM_story 0 = σ fT_bytes 0) (hf : σ fR_fault 0 0 = 0) (hb : τ fM_bestFault 0 0 = 0) (hs : σ fR_sort 0 0 = 9) (ht : τ fM_sort 0 0 = 9) (R1 : RU σ τ f N 1 (σ fR_nameFrom 0 0) (σ fR_nameTo 0 0)) (R0 : RU σ τ f N 0 (σ fR_runFrom 0 0) (σ fR_runTo 0 0)) (hk : σ fR_kind0 0 0 = dN σ (nR σ 0) 5) (hk1 : dN σ (nR σ 0) 5 ≠ -1) (ho : σ fR_object0 0 0 = (if dN σ (nN σ 0) 2 = -1 then 24 + dN σ (nN σ 0) 0 else dN σ (nN σ 0) 2)) (ho1 : ¬ (dN σ (nN σ 0) 2 = -1 ∧ dN σ (nN σ 0) 0 = -1)) (hq : 0 ≤ τ fM_tests 0 0 ∧ τ fM_tests 0 0 < 2400) (h0 : 0 ≤ σ fR_whatAt 0 0 ∧ σ fR_whatAt 0 0 < N) (hv : vlB σ (σ fW_propertyTypes 0 (dN σ (nR σ 0) 5)) (σ fR_whatAt 0 0) N = true) (v1 : vlRow σ (σ fR_whatAt 0 0) N 686 σ) (v2 : vlRoM σ (σ fR_whatAt 0 0) N (τ fM_tests 0 0) τ) {d : Nat} (hd : 5 ≤ d) (first : Int) : ∃ b σ' τ', c_r_act (d + 2) σ = some (b, σ') ∧ c_m_does1 (d + 2) τ first = some (0, τ') ∧ fr a9C σ σ' ∧ fr a9M τ τ' ∧ ((b = 1 ∧ σ' fR_fault 0 0 = 0 ∧ τ' fM_bestFault 0 0 = 0 ∧ WK σ' τ' ∧ RW5 σ' τ' ∧ DW σ' τ' g ∧ kb0 σ' τ') ∨ (b = 0 ∧ AF σ' τ' 5 (σ fT_places 0 (σ fR_nameFrom 0 0)))) := by
  have E' := E
  obtain ⟨E1, E2, E3, E4⟩ := E
  have ET : ENV σ τ f N ∧ TOK σ τ f N := ⟨E1, E2⟩
  have W := E4
  obtain ⟨Wk, Wo, Wa, Wt, Wv, Wp, Wr, Wb, Wc, Wd, Wl⟩ := E4
  have rO := e0_dN E' (nN σ 0) 2
  have rK := e0_dN E' (nN σ 0) 0
  have rP := e0_dN E' (nR σ 0) 5
  have rV := e0_dN E' (nmT σ (σ fR_whatAt 0 0) N) 4
  have m2 : mxN σ 2 = σ fW_objects 0 0 := rfl
  have m0 : mxN σ 0 = σ fW_kinds 0 0 := rfl
  have m5 : mxN σ 5 = σ fW_properties 0 0 := rfl
  have m4 : mxN σ 4 = σ fW_values 0 0 := rfl
  obtain ⟨O, eO⟩ : ∃ x, x = dN σ (nN σ 0) 2 := ⟨_, rfl⟩
  obtain ⟨K, eK⟩ : ∃ x, x = dN σ (nN σ 0) 0 := ⟨_, rfl⟩
  obtain ⟨P, eP⟩ : ∃ x, x = dN σ (nR σ 0) 5 := ⟨_, rfl⟩
  rw [← eO] at rO ho ho1
  rw [← eK] at rK ho ho1
  rw [← eP] at rP hk hk1 hv
  have hN5 := E1.2.2.1
  have fN := E1.2.1
  have f0 := E1.1
  have sz := E2.1.1
  have t0 := frB_t R1.2.2.2
  obtain ⟨v, ev⟩ : ∃ x, x = σ fS_value 686 0 := ⟨_, rfl⟩
  obtain ⟨n, en⟩ : ∃ x, x = σ fS_length 686 0 := ⟨_, rfl⟩
  obtain ⟨m, em⟩ : ∃ x, x = τ fM_qLong 0 (τ fM_tests 0 0) := ⟨_, rfl⟩
  have tW := E2.2.1 (σ fR_whatAt 0 0) h0.1 (by omega)
  -- the value
  have val : τ fM_qWhat 0 (τ fM_tests 0 0) = v ∧ (σ fW_propertyTypes 0 P = 1 → m = n) ∧ vlO σ P v n := by
    unfold vlB at hv
    rcases v1 with ⟨a1, _, a2⟩ | ⟨a1, _, a2, a3⟩ | ⟨a1, a1', _, a2⟩
    · rcases v2 with ⟨b1, b2⟩ | ⟨b1, _⟩ | ⟨b1, _⟩
      · rw [if_pos a1] at hv
        have ty := of_decide_eq_true hv
        have nr := nuT_r E' h0 a1
        exact ⟨by rw [b2, ev, a2], fun z => by omega, fun _ => by rw [ev, a2]; omega, fun z => by omega, fun z => by omega⟩
      · omega
      · exact absurd a1 b1
    · rcases v2 with ⟨b1, _⟩ | ⟨b1, b2, b3⟩ | ⟨_, b1, _⟩
      · omega
      · rw [if_neg (by omega), if_pos a1] at hv
        have ty := of_decide_eq_true hv
        have tx := E2.2.2.2.2.2 (σ fR_whatAt 0 0) h0.1 h0.2 a1
        exact ⟨by rw [b2, ev, a2], fun _ => by rw [em, en, b3, a3], fun z => by omega, fun _ => by
          rw [ev, en, a2, a3]
          refine ⟨by omega, by omega, by omega, fun i i0 i1 => ?_⟩
          have := tx.2.2.2 (σ fT_places 0 (σ fR_whatAt 0 0) + 1 + i) (by omega) (by omega)
          omega, fun z => by omega⟩
      · exact absurd a1 b1
    · rcases v2 with ⟨b1, _⟩ | ⟨b1, _⟩ | ⟨_, _, b2⟩
      · exact absurd b1 a1
      · exact absurd b1 a1'
      · rw [if_neg a1, if_neg a1'] at hv
        have hv' := (Bool.and_eq_true _ _).mp hv
        have w1 := of_decide_eq_true hv'.1
        have ty := of_decide_eq_true hv'.2
        have wv := Wv.2.2.2 (dN σ (nmT σ (σ fR_whatAt 0 0) N) 4) (by omega) (by omega)
        exact ⟨by rw [b2, ev, a2], fun z => by omega, fun z => by omega, fun z => by omega, fun _ => by rw [ev, a2]; exact ⟨by omega, by omega, ty⟩⟩
  obtain ⟨q1, q2, q3⟩ := val
  have topC : ∀ b ρ, (b = 0 ∨ b = 1) → c_r_set (d + 1) σ (σ fR_object0 0 0) P v n (σ fR_nameFrom 0 0) = some (b, ρ) → c_r_act (d + 2) σ = some (b, ρ) := by
    intro b ρ hb' h
    rw [e_r_act, hs]
    iterate 9 rw [if_neg (by decide)]
    rw [if_pos rfl, nn_ok _ (by decide), nn_ok _ (by decide), hk]
    rw [show ((0 : Int) + 686) = 686 by decide, ← ev, ← en, h]
    simp only [Option.bind_some]
    rw [z1_ok _ hb']
  have b1 : c_m_meansRun d τ 1 4 = some (O, τ) := by rw [m_meansA ET (tkT_r τ) E3 R1 (by omega) 4, mN_dN (s := 2) (by omega), eO]; rfl
  have b2 : c_m_meansRun d τ 0 7 = some (P, τ) := by rw [m_meansA ET (tkT_r τ) E3 R0 (by omega) 7, mN_dN (s := 5) (by omega), eP]; rfl
  have b3 : c_m_meansRun d τ 1 0 = some (K, τ) := by rw [m_meansA ET (tkT_r τ) E3 R1 (by omega) 0, mN_dN (s := 0) (by omega), eK]; rfl
  have topM : ∀ ρ, c_m_doProperty (d + 1) τ = some (0, ρ) → c_m_does1 (d + 2) τ first = some (0, ρ) := by
    intro ρ h
    rw [e_m_does1, ht]
    iterate 9 rw [if_neg (by decide)]
    rw [if_pos rfl, h]
    rfl
  have runM := e_m_doProperty d τ
  rw [b1] at runM
  simp only [Option.bind_some] at runM
  rw [b2] at runM
  simp only [Option.bind_some] at runM
  -- what follows on the telling
  have fin : ∀ (r : Int) b σ' τ', σ fR_object0 0 0 = r → c_r_set (d + 1) σ r P v n (σ fR_nameFrom 0 0) = some (b, σ') → c_m_doProperty (d + 1) τ = m_doProperty_76 d τ' b → fr (stW ++ ntL) σ σ' → fr [fM_objectTold, fM_objectSays, fM_objectLong, fM_kindTold, fM_kindSays, fM_kindLong] τ τ' → ((b = 1 ∧ fr stW σ σ' ∧ RWh σ' τ') ∨ (b = 0 ∧ τ' = τ ∧ σ' fR_fault 0 0 = 5 ∧ σ' fR_where 0 0 = σ fT_places 0 (σ fR_nameFrom 0 0))) → ∃ b σ' τ', c_r_act (d + 2) σ = some (b, σ') ∧ c_m_does1 (d + 2) τ first = some (0, τ') ∧ fr a9C σ σ' ∧ fr a9M τ τ' ∧ ((b = 1 ∧ σ' fR_fault 0 0 = 0 ∧ τ' fM_bestFault 0 0 = 0 ∧ WK σ' τ' ∧ RW5 σ' τ' ∧ DW σ' τ' g ∧ kb0 σ' τ') ∨ (b = 0 ∧ AF σ' τ' 5 (σ fT_places 0 (σ fR_nameFrom 0 0)))) := by
    intro r b σ' τ' er k1 k2 k3 k4 k5
    rw [← er] at k1
    rcases k5 with ⟨c, c1, c2⟩ | ⟨c, c1, c2, c3⟩
    · rw [c] at k1 k2
      rw [e_m_doProperty_76, if_neg (by decide)] at k2
      have fM : fr a9M τ τ' := fr_sub k4 (by decide)
      have w := w_props W R5 D kb (fr_sub c1 (by decide)) fM c2
      exact ⟨1, σ', τ', topC 1 σ' (Or.inr rfl) k1, topM τ' k2, k3, fM, Or.inl ⟨rfl, by rw [c1 _ (by decide)]; exact hf, by rw [k4 _ (by decide)]; exact hb, w.1, w.2.1, w.2.2.1, w.2.2.2⟩⟩
    · rw [c] at k1 k2
      rw [c1] at k2
      obtain ⟨τ2, w1, w2, w3, w4⟩ := m_wrongA hb (t := τ fM_runFrom 0 1) (why := 5) (by rw [R1.2.1]; omega) (d := d) (by omega)
      rw [e_m_doProperty_76, if_pos rfl, w1] at k2
      simp only [Option.bind_some] at k2
      refine ⟨0, σ', τ2, topC 0 σ' (Or.inl rfl) k1, topM τ2 k2, k3, fr_sub w2 (by decide), Or.inr ⟨rfl, c2, c3, w3, ?_⟩⟩
      rw [w4, R1.2.1]
      exact (E2.2.1 _ t0.1 (by omega)).2.2.2
  have hq' : 0 ≤ τ fM_tests 0 0 ∧ τ fM_tests 0 0 < 2400 := hq
  by_cases c : O = -1
  · rw [if_pos c] at ho
    rw [if_pos c, b3] at runM
    simp only [Option.bind_some] at runM
    rw [ck_ok _ hq', ck_ok _ hq', q1, ← em] at runM
    obtain ⟨b, σ', τ', s1, s2, s3, s4, s5⟩ := set_K Wp R5.2.1 hst sz hf (o := K) (p := P) (v := v) (n := n) (m := m) (t := σ fR_nameFrom 0 0) q2 (by omega) Wk.1.1 Wo.2.1 (by have := Wk.2.1; omega) (by omega) q3 (by omega) (d := d + 1) (d' := d) (by omega) (by omega)
    rw [s2] at runM
    exact fin (24 + K) b σ' τ' ho s1 runM s3 (fr_sub s4 (by decide)) s5
  · rw [if_neg c] at ho
    rw [if_neg c, ck_ok _ hq', ck_ok _ hq', q1, ← em] at runM
    obtain ⟨b, σ', τ', s1, s2, s3, s4, s5⟩ := set_O Wp R5.2.1 hst sz hf (o := O) (p := P) (v := v) (n := n) (m := m) (t := σ fR_nameFrom 0 0) q2 (by omega) Wo.2.1 Wo.2.1 (by have := Wk.2.1; omega) (by omega) q3 (by omega) (d := d + 1) (d' := d) (by omega) (by omega)
    rw [s2] at runM
    exact fin O b σ' τ' ho s1 runM s3 (fr_sub s4 (by decide)) s5
/-- a text that stands by itself: it describes the latest object -/
theorem act_0 (W : WK σ τ) {g : Int} (D : DW σ τ g) (R5 : RW5 σ τ) (kb : kb0 σ τ) (hst : τ fM_story 0 = σ fT_bytes 0) (sz : σ fT_size 0 0 ≤ 5000) (hf : σ fR_fault 0 0 = 0) (hb : τ fM_bestFault 0 0 = 0) (hs : σ fR_sort 0 0 = 0) (ht : τ fM_sort 0 0 = 0) (hl : τ fM_described 0 0 = σ fR_latest 0 0) (hl0 : 0 ≤ σ fR_latest 0 0 ∧ σ fR_latest 0 0 < σ fW_objects 0 0) (hx : 0 ≤ τ fM_textAt 0 0 ∧ τ fM_textAt 0 0 < 5002) (hp : τ fM_place 0 (τ fM_textAt 0 0) = σ fT_places 0 0) (hn : τ fM_length 0 (τ fM_textAt 0 0) = σ fT_lengths 0 0 - 2) (h0 : 0 ≤ σ fT_places 0 0 ∧ 2 ≤ σ fT_lengths 0 0 ∧ σ fT_places 0 0 + σ fT_lengths 0 0 ≤ σ fT_size 0 0) (ty : σ fW_propertyTypes 0 0 = 1) (hB : ∀ q, σ fT_places 0 0 < q → q < σ fT_places 0 0 + σ fT_lengths 0 0 - 1 → 0 ≤ σ fT_bytes 0 q) {d : Nat} (hd : 3 ≤ d) {first : Int} (h1 : 0 ≤ first ∧ first < 5002) (hfi : τ fM_place 0 first = σ fT_places 0 0) : ∃ b σ' τ', c_r_act (d + 1) σ = some (b, σ') ∧ c_m_does1 (d + 1) τ first = some (0, τ') ∧ fr a9C σ σ' ∧ fr a9M τ τ' ∧ ((b = 1 ∧ σ' fR_fault 0 0 = 0 ∧ τ' fM_bestFault 0 0 = 0 ∧ WK σ' τ' ∧ RW5 σ' τ' ∧ DW σ' τ' g ∧ kb0 σ' τ') ∨ (b = 0 ∧ AF σ' τ' 5 (σ fT_places 0 0))) := by
  have W' := W
  obtain ⟨Wk, Wo, Wa, Wt, Wv, Wp, Wr, Wb, Wc, Wd, Wl⟩ := W'
  have p1 := Wp.1
  obtain ⟨b, σ', τ', s1, s2, s3, s4, s5⟩ := set_O Wp R5.2.1 hst sz hf (o := σ fR_latest 0 0) (p := 0) (v := σ fT_places 0 0 + 1) (n := σ fT_lengths 0 0 - 2) (m := σ fT_lengths 0 0 - 2) (t := 0) (fun _ => rfl) hl0 Wo.2.1 Wo.2.1 (by have := Wk.2.1; omega) (by omega) ⟨fun z => by omega, fun _ => ⟨by omega, by omega, by omega, fun i i0 i1 => hB _ (by omega) (by omega)⟩, fun z => by omega⟩ (by omega) (d := d) (d' := d) (by omega) (by omega)
  have hC : ∀ (hb' : b = 0 ∨ b = 1), c_r_act (d + 1) σ = some (b, σ') := by
    intro hb'
    rw [e_r_act, if_pos hs, w32_ok (x := σ fT_places 0 0 + 1) (by omega), w32_ok (x := σ fT_lengths 0 0 - 2) (by omega), s1]
    simp only [Option.bind_some]
    rw [z1_ok _ hb']
  have runM := e_m_does1 d τ first
  rw [if_pos ht, ck_ok _ hx, ck_ok _ hx, hl, hp, hn, w32_ok (x := σ fT_places 0 0 + 1) (by omega), s2] at runM
  simp only [Option.bind_some] at runM
  rcases s5 with ⟨c, c1, c2⟩ | ⟨c, c1, c2, c3⟩
  · rw [c, if_neg (by decide)] at runM
    have fM : fr a9M τ τ' := fr_sub s4 (by decide)
    have w := w_props W R5 D kb (fr_sub c1 (by decide)) fM c2
    exact ⟨b, σ', τ', hC (Or.inr c), runM, s3, fM, Or.inl ⟨c, by rw [c1 _ (by decide)]; exact hf, by rw [s4 _ (by decide)]; exact hb, w.1, w.2.1, w.2.2.1, w.2.2.2⟩⟩
  · obtain ⟨τ2, w1, w2, w3, w4⟩ := m_wrongA hb (t := first) (why := 5) h1 (d := d) (by omega)
    rw [c, if_pos rfl, c1, w1] at runM
    simp only [Option.bind_some] at runM
    exact ⟨b, σ', τ2, hC (Or.inl c), runM, s3, fr_sub w2 (by decide), Or.inr ⟨c, c2, c3, w3, by rw [w4]; exact hfi⟩⟩
end

/-! the act of contrary adjectives, both sides -/
theorem fr_mem {L : List Nat} {σ σ' : ga_S} (h : fr L σ σ') {M : List Nat} (hm : M.all (fun F => !(L.contains F)) = true) : ∀ F, F ∈ M → σ' F = σ F := fun F hF => fr_no h hm hF
theorem nB_1 {σ : ga_S} {W : List (List Int)} {S : List (List (List Int))} (h : nB σ W S = true) : W.length ≤ 3 ∧ fnd σ (jn W) 0 = -1 ∧ W ∉ S := by
  unfold nB at h
  exact of_decide_eq_true h
section
variable {σ τ : ga_S} {f : Int} {N : Nat}
def a18C : List Nat := adW ++ dicL ++ spL
def a18M : List Nat := adX ++ lexL
theorem act_18 (E : E0 σ τ f N) {g : Int} (D : DW σ τ g) (R5 : RW5 σ τ) (hs : σ fR_sort 0 0 = 18) (ht : τ fM_sort 0 0 = 18) (R0 : RU σ τ f N 0 (σ fR_nameFrom 0 0) (σ fR_nameTo 0 0)) (R1 : RU σ τ f N 1 (σ fR_runFrom 0 0) (σ fR_runTo 0 0)) (R2 : RU σ τ f N 2 (σ fR_runFrom 0 1) (σ fR_runTo 0 1)) (l1 : σ fR_runFrom 0 0 < σ fR_runTo 0 0) (l2 : σ fR_runFrom 0 1 < σ fR_runTo 0 1) (hk : σ fR_kind0 0 0 = dN σ (nN σ 0) 0) (hk1 : dN σ (nN σ 0) 0 ≠ -1) (w0 : nB σ (wC σ 0) [] = true) (w1 : nB σ (wC σ 1) [wC σ 0] = true) (hA : σ fW_adjectives 0 0 + 1 < 24) {d : Nat} (hd : 4 ≤ d) (first : Int) : ∃ σ' τ', c_r_act (d + 1) σ = some (1, σ') ∧ c_m_does1 (d + 1) τ first = some (0, τ') ∧ fr a18C σ σ' ∧ fr a18M τ τ' ∧ WK σ' τ' ∧ RW5 σ' τ' ∧ DW σ' τ' g ∧ tkS σ σ' ∧ (∀ a, a < σ fW_adjectives 0 0 → τ' fM_definedTests 0 a = τ fM_definedTests 0 a) ∧ ∀ a, σ fW_adjectives 0 0 ≤ a → a < σ' fW_adjectives 0 0 → σ' fW_contraries 0 a ≠ -1 := by
  obtain ⟨E1, E2, E3, E4⟩ := E
  have ET : ENV σ τ f N ∧ TOK σ τ f N := ⟨E1, E2⟩
  have wk := E4
  obtain ⟨Wk, Wo, Wa, Wt, Wv, Wp, Wr, Wb, Wc, Wd, Wl⟩ := E4
  obtain ⟨A, eA⟩ : ∃ x, x = σ fW_adjectives 0 0 := ⟨_, rfl⟩
  obtain ⟨K, eK⟩ : ∃ x, x = dN σ (nN σ 0) 0 := ⟨_, rfl⟩
  have a2 := Wa.1
  have eM' : τ fM_adjectives 0 0 = A := by rw [Wa.2.2.1, eA]
  rw [← eA] at hA a2
  have kb := e0_dN ⟨E1, E2, E3, wk⟩ (nN σ 0) 0
  have m0 : mxN σ 0 = σ fW_kinds 0 0 := rfl
  rw [← eK] at kb hk hk1
  -- adjectives
  obtain ⟨σ1, b1, b2, b3, b4, b5⟩ := k_newAdjectives (σ := σ) (k := K) eA (by omega) hA (d := d) (by omega)
  obtain ⟨τ1, c1, c2, c3, c4, c5, c6⟩ := m_addAdjective (τ := τ) (k := K) (o := A + 1) eM'.symm (by omega) (by omega) (d := d) (by omega)
  have B1 : cB σ1 := by
    have B := D.2.2.2.2.1
    unfold cB at B ⊢
    rw [b2 fW_kinds (by decide), b2 fW_objects (by decide), b3, b2 fW_types (by decide), b2 fW_values (by decide), b2 fW_properties (by decide), b2 fW_relations (by decide), b2 fW_verbs (by decide), b2 fW_actions (by decide)]
    exact ⟨B.1, B.2.1, by omega, B.2.2.2⟩
  have D1 : DW σ1 τ1 g := DW_cm D (fr_mem b2 (by decide)) (fun F hF => by
      by_cases z : F = fW_adjectives
      · rw [z, b3, ← eA]; omega
      · rw [b2 F (by revert z; revert F; decide)]; exact Int.le_refl _) (fr_mem c2 (by decide)) B1
  have S1 := tkS_g (tkS_r σ) b2 (by decide) (GC_g b2 (by decide) (cnt_1 b2 fW_adjectives (by decide) (by rw [b3, ← eA]; omega)) (Or.inl (by decide)) (by decide) (Or.inr (fun a a0 a1 => by rw [← eA] at a1; rw [b4, b5, if_neg (by omega), if_neg (by omega), if_neg (by omega)]; exact ⟨rfl, rfl⟩)) (Or.inl (by decide)) (Or.inl (by decide)) (Or.inl (by decide)))
  have T1 := tkT_f (tkT_r τ) c2 (by decide)
  have dic1 := dic_c (fr_mem b2 (M := dicL) (by decide))
  have n0 := nB_1 w0
  have n1 := nB_1 w1
  have len0 : σ fR_runTo 0 0 - σ fR_runFrom 0 0 ≤ 3 := by have := wsT_len (σ := σ) R1.2.2.2.2.1; have := n0.1; unfold wC at this; omega
  have len1 : σ fR_runTo 0 1 - σ fR_runFrom 0 1 ≤ 3 := by have := wsT_len (σ := σ) R2.2.2.2.2.1; have := n1.1; unfold wC at this; omega
  have mx3 : mxN σ1 3 = A + 2 := b3
  have lv1 : ∀ k, live σ1 k ↔ live σ k := by
    intro k; unfold live; rw [b2 fD_count (by decide), b2 fD_sorts (by decide)]
  have old : ∀ k, live σ1 k → σ1 fD_sorts 0 k = 3 → σ1 fD_numbers 0 k < A := by
    intro k l e
    have x := (Wd k ((lv1 k).mp l)).1
    rw [b2 fD_sorts (by decide)] at e
    rw [e] at x
    rw [b2 fD_numbers (by decide)]
    rw [eA]; exact x
  obtain ⟨σ2, τ2, d1, d2, d3, d4, d5, d6, d7⟩ := tell_J ET S1 T1 D1 (s := 3) (n := A) R1 l1 len0 (by rw [dic1.1]; exact n0.2.1) (by omega) (by omega) (by omega) (by omega) (fun k l e => by have := old k l e; omega) (d := d) (d' := d) (by omega) (by omega)
  -- the second one
  have fd := fnd_tell D1.1 d3 (by decide) (by rw [dic1.1]; exact n0.2.1)
  have kd2 : mN σ2 (nmT σ (σ fR_nameFrom 0 0) (σ fR_nameTo 0 0)) 0 = K := by
    rw [mN_dN (s := 0) (by omega), dN_tell D1.1 d3 (by decide) (by rw [dic1.1]; exact n0.2.1)]
    have ne : nmT σ (σ fR_nameFrom 0 0) (σ fR_nameTo 0 0) ≠ nmT σ (σ fR_runFrom 0 0) (σ fR_runTo 0 0) := by
      intro z
      have : dN σ (nmT σ (σ fR_nameFrom 0 0) (σ fR_nameTo 0 0)) 0 = -1 := by
        unfold dN
        have n02 : fnd σ (nmT σ (σ fR_runFrom 0 0) (σ fR_runTo 0 0)) 0 = -1 := n0.2.1
        rw [z, if_pos (Or.inl n02)]
      exact hk1 (eK.trans this)
    rw [if_neg ne, dic1.2.1]
    exact eK.symm
  have me2 := m_meansA ET d7 d5.1 R0 (d := d) (by omega) 0
  rw [kd2] at me2
  have e2 : τ2 fM_adjectives 0 0 = A + 1 := by rw [d4.1 _ (by decide)]; exact c3
  obtain ⟨τ3, g1, g2, g3, g4, g5, g6⟩ := m_addAdjective (τ := τ2) (k := K) (o := A) e2.symm (by omega) (by omega) (d := d) (by omega)
  have D2 : DW σ2 τ3 g := DW_cm d5 (fun _ _ => rfl) (fun _ _ => Int.le_refl _) (fr_mem g2 (by decide)) d5.2.2.2.2.1
  have T3 := tkT_f d7 g2 (by decide)
  have mx3' : mxN σ2 3 = A + 2 := by show σ2 fW_adjectives 0 0 = A + 2; rw [d3.1 _ (by decide)]; exact b3
  have lv2 := DT_live D1.1.1 d3 (by decide)
  obtain ⟨σ3, τ4, i1, i2, i3, i4, i5, i6, i7⟩ := tell_J ET d6 T3 D2 (s := 3) (n := A + 1) R2 l2 len1 (by
      rw [fd, dic1.1]
      have n12 : fnd σ (nmT σ (σ fR_runFrom 0 1) (σ fR_runTo 0 1)) 0 = -1 := n1.2.1
      rw [if_pos n12, if_neg (fun z => n1.2.2 (by rw [List.mem_singleton]; exact nm_ne E2 R2.2.2.2 R1.2.2.2 z))]) (by omega) (by omega) (by omega) (by omega) (fun k l e => by
      rcases (lv2 k).mp l with y | y
      · have dd := d3.2.2.2.2.1 k y.1 y.2.1
        rw [dd.2.1] at e
        rw [dd.2.2.1]
        have := old k y e
        omega
      · rw [y, d3.2.2.2.2.2.2.2.1]; omega) (d := d) (d' := d) (by omega) (by omega)
  have fC : fr a18C σ σ3 := fr_trans (fr_sub b2 (by decide)) (fr_trans (fr_sub d3.1 (by decide)) (fr_sub i3.1 (by decide)))
  have fM : fr a18M τ τ4 := fr_trans (fr_sub c2 (by decide)) (fr_trans (fr_sub d4.1 (by decide)) (fr_trans (fr_sub g2 (by decide)) (fr_sub i4.1 (by decide))))
  have hC : c_r_act (d + 1) σ = some (1, σ3) := by
    rw [e_r_act, hs]
    iterate 18 rw [if_neg (by decide)]
    rw [if_pos rfl, hk, b1]
    simp only [Option.bind_some]
    rw [b2 fR_runFrom (by decide), b2 fR_runTo (by decide), d1]
    simp only [Option.bind_some]
    rw [d3.1 fR_runFrom (by decide), d3.1 fR_runTo (by decide), b2 fR_runFrom (by decide), b2 fR_runTo (by decide), w32_ok (x := A + 1) (by omega), i1]
    rfl
  have hM : c_m_does1 (d + 1) τ first = some (0, τ4) := by
    have me := m_meansA ET (tkT_r τ) E3 R0 (d := d) (by omega) 0
    have kd : mN σ (nmT σ (σ fR_nameFrom 0 0) (σ fR_nameTo 0 0)) 0 = K := by rw [mN_dN (s := 0) (by omega)]; exact eK.symm
    rw [kd] at me
    have d2' : c_m_tellRun d τ1 5 A 1 = some (0, τ2) := by
      have e5 : sM 3 A = 5 := rfl
      have e6 : iM 3 A = A := by unfold iM; rw [if_neg (by omega)]
      rw [e5, e6] at d2; exact d2
    have i2' : c_m_tellRun d τ3 5 (A + 1) 2 = some (0, τ4) := by
      have e5 : sM 3 (A + 1) = 5 := rfl
      have e6 : iM 3 (A + 1) = A + 1 := by unfold iM; rw [if_neg (by omega)]
      rw [e5, e6] at i2; exact i2
    rw [e_m_does1, ht]
    iterate 18 rw [if_neg (by decide)]
    rw [if_pos rfl, me]
    simp only [Option.bind_some]
    rw [eM', w32_ok (x := A + 1) (by omega), c1]
    simp only [Option.bind_some]
    rw [d2']
    simp only [Option.bind_some]
    rw [me2]
    simp only [Option.bind_some]
    rw [g1]
    simp only [Option.bind_some]
    rw [i2']
    rfl
  have xk : ∀ i, σ3 fW_adjectiveKinds 0 i = if i = A ∨ i = A + 1 then K else σ fW_adjectiveKinds 0 i := by
    intro i; rw [i3.1 fW_adjectiveKinds (by decide), d3.1 fW_adjectiveKinds (by decide)]; exact b4 i
  have xc : ∀ i, σ3 fW_contraries 0 i = if i = A then A + 1 else if i = A + 1 then A else σ fW_contraries 0 i := by
    intro i; rw [i3.1 fW_contraries (by decide), d3.1 fW_contraries (by decide)]; exact b5 i
  have xn : σ3 fW_adjectives 0 0 = A + 2 := by rw [i3.1 fW_adjectives (by decide), d3.1 fW_adjectives (by decide)]; exact b3
  have yk : ∀ i, τ4 fM_adjectiveKind 0 i = if i = A + 1 then K else if i = A then K else τ fM_adjectiveKind 0 i := by
    intro i; rw [i4.1 fM_adjectiveKind (by decide), g4, d4.1 fM_adjectiveKind (by decide), c4]
  have yc : ∀ i, τ4 fM_contrary 0 i = if i = A + 1 then A else if i = A then A + 1 else τ fM_contrary 0 i := by
    intro i; rw [i4.1 fM_contrary (by decide), g5, d4.1 fM_contrary (by decide), c5]
  have yd : ∀ i, τ4 fM_definedTests 0 i = if i = A + 1 then 0 else if i = A then 0 else τ fM_definedTests 0 i := by
    intro i; rw [i4.1 fM_definedTests (by decide), g6, d4.1 fM_definedTests (by decide), c6]
  have yn : τ4 fM_adjectives 0 0 = A + 2 := by rw [i4.1 fM_adjectives (by decide), g3]; omega
  have Wa' : WKa σ3 τ4 := by
    refine ⟨by omega, by omega, by omega, fun a z0 z1 => ?_⟩
    rw [fC fW_kinds (by decide)]
    by_cases q1 : a = A
    · subst q1
      rw [xk, if_pos (Or.inl rfl), yk, if_neg (by omega), if_pos rfl]
      refine ⟨⟨by omega, by omega, rfl⟩, Or.inr ?_⟩
      rw [xc a, if_pos rfl, xc (a + 1), if_neg (show ¬ a + 1 = a by omega), if_pos rfl, xk, if_pos (Or.inr rfl), yc, if_neg (by omega), if_pos rfl, yd, if_neg (by omega), if_pos rfl]
      exact ⟨by omega, by omega, by omega, rfl, rfl, rfl, rfl⟩
    · by_cases q2 : a = A + 1
      · subst q2
        rw [xk, if_pos (Or.inr rfl), yk, if_pos rfl]
        refine ⟨⟨by omega, by omega, rfl⟩, Or.inr ?_⟩
        rw [xc (A + 1), if_neg (show ¬ A + 1 = A by omega), if_pos rfl, xc A, if_pos rfl, xk, if_pos (Or.inl rfl), yc, if_pos rfl, yd, if_pos rfl]
        exact ⟨by omega, by omega, by omega, rfl, rfl, rfl, rfl⟩
      · have o := Wa.2.2.2 a z0 (by omega)
        rw [xk, if_neg (by omega), yk, if_neg q2, if_neg q1, xc a, if_neg q1, if_neg q2, yc, if_neg q2, if_neg q1, yd, if_neg q2, if_neg q1, xn]
        refine ⟨o.1, ?_⟩
        rcases o.2 with y | y
        · exact Or.inl y
        · right
          rw [xc (σ fW_contraries 0 a), if_neg (by omega), if_neg (by omega), xk, if_neg (by omega)]
          exact ⟨y.1, by omega, y.2.2⟩
  refine ⟨σ3, τ4, hC, hM, fC, fM, ⟨WKk_f Wk (fr_mem fC (by decide)) (fr_mem fM (by decide)), WKo_f Wo (fr_mem fC (by decide)) (fr_mem fM (by decide)), Wa', WKt_f Wt (fr_mem fC (by decide)) (fr_mem fM (by decide)), WKv_f Wv (fr_mem fC (by decide)) (fr_mem fM (by decide)), WKp_f Wp (fr_mem fC (by decide)) (fr_mem fM (by decide)), WKr_f Wr (fr_mem fC (by decide)) (fr_mem fM (by decide)), WKb_f Wb (fr_mem fC (by decide)) (fr_mem fM (by decide)), WKc_f Wc (fr_mem fC (by decide)) (fr_mem fM (by decide)), i5.2.1, i5.2.2.1⟩, ⟨?_, RWh_f R5.2.1 (fr_mem fC (by decide)) (by rw [fC fT_size (by decide), fC fT_bytes (by decide)]; exact ⟨rfl, rfl⟩) (fr_mem fM (by decide)), RWp_f R5.2.2.1 (fr_mem fC (by decide)) (fr_mem fM (by decide)), RWy_f R5.2.2.2.1 (fr_mem fC (by decide)) (fr_mem fM (by decide)), RWe_f R5.2.2.2.2 (fr_mem fC (by decide)) (fr_mem fM (by decide))⟩, i5, i6, fun a h => by rw [← eA] at h; rw [yd, if_neg (by omega), if_neg (by omega)], fun a z0 z1 => by
    rw [xn] at z1
    rw [← eA] at z0
    rw [xc]
    by_cases q : a = A
    · rw [if_pos q]; omega
    · rw [if_neg q, if_pos (by omega)]; omega⟩
  obtain ⟨t1, t2, t3⟩ := R5.1
  have cr : ∀ a, 0 ≤ a → a < A → σ fW_contraries 0 a = -1 ∨ (0 ≤ σ fW_contraries 0 a ∧ σ fW_contraries 0 a < A) := by
    intro a x y
    rcases (Wa.2.2.2 a x (by omega)).2 with z | z
    · exact Or.inl z.1
    · exact Or.inr ⟨z.1, by omega⟩
  refine ⟨?_, ?_, ?_⟩
  · intro o o0 o1
    rw [fC fW_objects (by decide)] at o1
    exact rowT_more (t1 o o0 o1) eA cr (fC _ (by decide)) xn xc (fM _ (by decide)) (by omega)
  · intro k k0 k1
    rw [fC fW_kinds (by decide)] at k1
    exact rowT_more (t2 k k0 k1) eA cr (fC _ (by decide)) xn xc (fM _ (by decide)) (by omega)
  · intro r a h
    rw [fC fW_objects (by decide), fC fW_kinds (by decide)] at h
    rw [fC fW_told (by decide)]
    exact t3 r a h
end

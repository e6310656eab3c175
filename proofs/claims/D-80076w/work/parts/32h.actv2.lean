/-! the act of values of a type: the loop -/
section
variable {σ τ : ga_S} {f : Int} {N : Nat}
theorem act_v (E : E0 σ τ f N) {g : Int} (D : DW σ τ g) (R5 : RW5 σ τ) (h8 : tv8 σ) (hs : σ fR_sort 0 0 = 15 ∨ σ fR_sort 0 0 = 16) (ht : τ fM_sort 0 0 = σ fR_sort 0 0) (hy : σ fR_isTyped 0 0 = 1) (hh : τ fM_how 0 0 = 2) {T m : Int} (hk : σ fR_kind0 0 0 = T) (hT : 2 ≤ T ∧ T < σ fW_types 0 0) (eT : tyN σ (nN σ 0) = T) (R0 : RU σ τ f N 0 (σ fR_nameFrom 0 0) (σ fR_nameTo 0 0)) (hl : τ fM_listFrom 0 0 = 0) (hm : τ fM_what 0 0 = m) (hm0 : 0 ≤ m ∧ m < 2600) (hr : τ fM_runs 0 0 = m + σ fR_runs 0 0) (hn : ∀ k, 0 ≤ k → k < σ fR_runs 0 0 → RU σ τ f N (m + k) (σ fR_runFrom 0 k) (σ fR_runTo 0 k) ∧ σ fR_runFrom 0 k < σ fR_runTo 0 k) (hn0 : 0 ≤ σ fR_runs 0 0) (ha : ∀ j, 0 ≤ j → j < σ fR_runs 0 0 → nB σ (wC σ j) ((rg 0 j).map (wC σ)) = true ∧ σ fW_typeValues 0 T + j < 8) {d : Nat} (hd : 5 ≤ d) (first : Int) : ∃ σ' τ', c_r_act (d + 2) σ = some (1, σ') ∧ c_m_does1 (d + 2) τ first = some (0, τ') ∧ fr a16C σ σ' ∧ fr a16M τ τ' ∧ WK σ' τ' ∧ RW5 σ' τ' ∧ DW σ' τ' g ∧ tv8 σ' ∧ tkS σ σ' ∧ NW σ σ' := by
  have E' := E
  obtain ⟨E1, E2, E3, E4⟩ := E
  have ET : ENV σ τ f N ∧ TOK σ τ f N := ⟨E1, E2⟩
  obtain ⟨Wk, Wo, Wa, Wt, Wv, Wp, Wr, Wb, Wc, Wd, Wl⟩ := E4
  have v48 := vals_lt Wt Wv h8
  have t8 := Wt.2.1
  obtain ⟨V, eV⟩ : ∃ x, x = σ fW_values 0 0 := ⟨_, rfl⟩
  obtain ⟨n, en⟩ : ∃ x, x = σ fR_runs 0 0 := ⟨_, rfl⟩
  have V0 := Wv.1
  have eV' : τ fM_values 0 0 = V := by rw [Wv.2.2.1, eV]
  have tT : 0 ≤ σ fW_typeValues 0 T := by
    have := Wt.2.2.2 T (by omega) hT.2
    unfold cntV at this
    omega
  rw [← eV] at V0 v48
  rw [← en] at hr hn hn0 ha
  have n8 : n ≤ 8 := by
    by_cases c : n ≤ 0
    · omega
    · have := (ha (n - 1) (by omega) (by omega)).2
      omega
  have wnew : ∀ k, 0 ≤ k → k < n → (wC σ k).length ≤ 3 ∧ fnd σ (nR σ k) 0 = -1 ∧ ∀ j, 0 ≤ j → j < k → nR σ k ≠ nR σ j := by
    intro k k0 k1
    have b := nB_1 (ha k k0 k1).1
    refine ⟨b.1, b.2.1, fun j j0 j1 z => b.2.2 ?_⟩
    have e := nm_ne E2 (hn k k0 k1).1.2.2.2 (hn j j0 (by omega)).1.2.2.2 z
    exact List.mem_map.mpr ⟨j, (rg_mem 0).mpr ⟨j0, j1⟩, e.symm⟩
  have loop : ∀ k, 0 ≤ k → k ≤ n → ∀ ρ υ, VC σ τ g V T ρ υ k → ∃ ρ' υ', r_values_2 d ρ k = some (1, ρ') ∧ m_doFifteen_120 d υ T (m + k) = some (0, υ') ∧ VC σ τ g V T ρ' υ' n := by
    refine rg_ind (n := n) ?_ ?_
    · intro k h h0 h1 ρ υ H
      have e : k = n := by omega
      subst e
      refine ⟨ρ, υ, ?_, ?_, H⟩
      · rw [e_r_values_2, H.2.2.2.1 fR_runs (by decide), ← en, if_neg (by omega)]
      · rw [e_m_doFifteen_120, H.2.2.2.2.1 fM_runs (by decide), hr, if_neg (by omega)]
    · intro k h ih h0 h1 ρ υ H
      obtain ⟨ρ1, ρ2, υ1, υ2, s1, s2, s3, s4, s5, s6⟩ := vc_step ET eV H h0 V0 (by omega) (by omega) ⟨tT, (ha k h0 h).2⟩ (hn k h0 h).1 (hn k h0 h).2 (wnew k h0 h) (d := d) (by omega)
      obtain ⟨ρ', υ', t1, t2, t3⟩ := ih (by omega) (by omega) ρ2 _ s6
      refine ⟨ρ', υ', ?_, ?_, t3⟩
      · rw [e_r_values_2, H.2.2.2.1 fR_runs (by decide), ← en, if_pos h, ck_ok _ (by omega), ck_ok _ (by omega), H.2.2.2.1 fR_kind0 (by decide), hk, s1]
        simp only [Option.bind_some]
        rw [H.2.2.2.1 fR_runFrom (by decide), H.2.2.2.1 fR_runTo (by decide), s2]
        simp only [Option.bind_some]
        rw [w32_ok (x := k + 1) (by omega), t1]
      · rw [e_m_doFifteen_120, H.2.2.2.2.1 fM_runs (by decide), hr, if_pos (by omega), H.2.2.2.2.2.2.1, ck_ok _ (by omega), ← s3, s4]
        simp only [Option.bind_some]
        rw [s5, w32_ok (x := V + k + 1) (by omega), w32_ok (x := m + k + 1) (by omega), show m + k + 1 = m + (k + 1) by omega, t2]
  obtain ⟨σ', τ', p1, p2, p3⟩ := loop 0 (Int.le_refl _) hn0 σ τ ⟨tkS_r σ, tkT_r τ, D, fr_refl _ _, fr_refl _ _, by omega, by omega, fun i => by rw [if_neg (by omega)], fun i => by rw [if_neg (by omega)], fun t => by split <;> omega, fun t => by split <;> omega, fun nm z _ => z, fun v z0 z1 => by omega⟩
  obtain ⟨q1, q2, q3, q4, q5, q6, q7, q8, q9, q10, q11, q12, q13⟩ := p3
  rw [Int.add_zero] at p2
  have Wt' : WKt σ' τ' := by
    refine ⟨by rw [q4 _ (by decide)]; exact Wt.1, by rw [q4 _ (by decide)]; exact t8, by rw [q4 _ (by decide), q5 _ (by decide)]; exact Wt.2.2.1, fun t z0 z1 => ?_⟩
    rw [q4 _ (by decide)] at z1
    rw [q10, q11, Wt.2.2.2 t z0 z1]
  have Wv' : WKv σ' τ' := by
    refine ⟨by omega, by omega, by omega, fun v z0 z1 => ?_⟩
    rw [q8, q9, q4 fW_types (by decide)]
    by_cases c : V ≤ v ∧ v < V + n
    · rw [if_pos c, if_pos c]; exact ⟨by omega, by omega, rfl⟩
    · rw [if_neg c, if_neg c]; exact Wv.2.2.2 v z0 (by omega)
  have h8' : tv8 σ' := by
    intro t z0 z1
    rw [q4 _ (by decide)] at z1
    rw [q10]
    by_cases c : T = t
    · rw [if_pos c, ← c]
      by_cases c2 : n ≤ 0
      · have := h8 T (by omega) hT.2
        omega
      · have := (ha (n - 1) (by omega) (by omega)).2
        omega
    · rw [if_neg c]
      have := h8 t z0 z1
      omega
  have hC : c_r_values (d + 1) σ = some (1, σ') := by rw [e_r_values, p1]
  have hM : c_m_doFifteen (d + 1) τ = some (0, τ') := by
    have k1 := m_typeOrPlural E' (fr_refl _ τ) R0 (d := d) (by omega)
    have k1' : c_m_typeOrPlural d τ 0 = some (T, τ) := by rw [k1, ← eT]; rfl
    rw [e_m_doFifteen, hm, ck_ok _ hm0, hh, if_neg (by decide), if_pos rfl, hl, k1']
    simp only [Option.bind_some]
    rw [hm, p2]
  refine ⟨σ', τ', ?_, ?_, q4, q5, ⟨WKk_f Wk (fr_mem q4 (by decide)) (fr_mem q5 (by decide)), WKo_f Wo (fr_mem q4 (by decide)) (fr_mem q5 (by decide)), WKa_f Wa (fr_mem q4 (by decide)) (fr_mem q5 (by decide)), Wt', Wv', WKp_f Wp (fr_mem q4 (by decide)) (fr_mem q5 (by decide)), WKr_f Wr (fr_mem q4 (by decide)) (fr_mem q5 (by decide)), WKb_f Wb (fr_mem q4 (by decide)) (fr_mem q5 (by decide)), WKc_f Wc (fr_mem q4 (by decide)) (fr_mem q5 (by decide)), q3.2.1, q3.2.2.1⟩, ⟨RWt_f R5.1 (fr_mem q4 (by decide)) (fr_mem q5 (by decide)), RWh_vals R5.2.1 q4 (by decide) (by rw [q4 fT_size (by decide), q4 fT_bytes (by decide)]; exact ⟨rfl, rfl⟩) q5 (by decide) (by omega) (fun i i0 i1 => by rw [q8, if_neg (by omega)]), RWp_f R5.2.2.1 (fr_mem q4 (by decide)) (fr_mem q5 (by decide)), RWy_f R5.2.2.2.1 (fr_mem q4 (by decide)) (fr_mem q5 (by decide)), RWe_f R5.2.2.2.2 (fr_mem q4 (by decide)) (fr_mem q5 (by decide))⟩, q3, h8', q1, fun o z0 z1 => by rw [q4 fW_objects (by decide)] at z1; omega, fun v z0 z1 => q13 v (by omega) (by omega)⟩
  · rcases hs with z | z
    · rw [e_r_act, z]
      iterate 15 rw [if_neg (by decide)]
      rw [if_pos rfl, hy, if_neg (by decide), hC]
      rfl
    · rw [e_r_act, z]
      iterate 16 rw [if_neg (by decide)]
      rw [if_pos rfl, hy, if_neg (by decide), hC]
      rfl
  · rcases hs with z | z
    · rw [e_m_does1, ht, z]
      iterate 15 rw [if_neg (by decide)]
      rw [if_pos rfl, hM]
      rfl
    · rw [e_m_does1, ht, z]
      iterate 16 rw [if_neg (by decide)]
      rw [if_pos rfl, hM]
      rfl
end

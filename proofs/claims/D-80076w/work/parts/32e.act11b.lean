/-! the act of new actions: the loop -/
section
variable {σ τ : ga_S} {f : Int} {N : Nat}
theorem act_11 (E : E0 σ τ f N) {g : Int} (D : DW σ τ g) (R5 : RW5 σ τ) (hs : σ fR_sort 0 0 = 11) (ht : τ fM_sort 0 0 = 11) (hn : ∀ k, 0 ≤ k → k < σ fR_names 0 0 → RU σ τ f N k (σ fR_nameFrom 0 k) (σ fR_nameTo 0 k) ∧ σ fR_nameFrom 0 k < σ fR_nameTo 0 k) (hn0 : 0 ≤ σ fR_names 0 0) (hl : τ fM_listFrom 0 0 = 0 ∧ τ fM_listSize 0 0 = σ fR_names 0 0) (hw : (τ fM_what 0 0 = -1 ∧ σ fR_kind0 0 0 = -1) ∨ (τ fM_what 0 0 ≠ -1 ∧ RU σ τ f N (τ fM_what 0 0) (σ fR_runFrom 0 0) (σ fR_runTo 0 0) ∧ σ fR_kind0 0 0 = dN σ (nR σ 0) 0 ∧ dN σ (nR σ 0) 0 ≠ -1)) (ha : ∀ j, 0 ≤ j → j < σ fR_names 0 0 → nB σ (wN σ j) ((rg 0 j).map (wN σ)) = true ∧ σ fW_actions 0 0 + j < 12) {d : Nat} (hd : 4 ≤ d) (first : Int) : ∃ σ' τ', c_r_act (d + 1) σ = some (1, σ') ∧ c_m_does1 (d + 1) τ first = some (0, τ') ∧ fr a11C σ σ' ∧ fr a11M τ τ' ∧ WK σ' τ' ∧ RW5 σ' τ' ∧ DW σ' τ' g ∧ tkS σ σ' := by
  have E' := E
  obtain ⟨E1, E2, E3, E4⟩ := E
  have ET : ENV σ τ f N ∧ TOK σ τ f N := ⟨E1, E2⟩
  obtain ⟨Wk, Wo, Wa, Wt, Wv, Wp, Wr, Wb, Wc, Wd, Wl⟩ := E4
  obtain ⟨A, eA⟩ : ∃ x, x = σ fW_actions 0 0 := ⟨_, rfl⟩
  obtain ⟨kd, ek⟩ : ∃ x, x = σ fR_kind0 0 0 := ⟨_, rfl⟩
  obtain ⟨n, en⟩ : ∃ x, x = σ fR_names 0 0 := ⟨_, rfl⟩
  have a5 := Wc.1
  have eA' : τ fM_actions 0 0 = A := by rw [Wc.2.2.1, eA]
  have kdR : -1 ≤ kd ∧ kd < σ fW_kinds 0 0 := by
    have k5 := Wk.2.1
    rcases hw with z | z
    · omega
    · have b := e0_dN E' (nR σ 0) 0
      have m0 : mxN σ 0 = σ fW_kinds 0 0 := rfl
      omega
  rw [← eA] at a5 ha
  rw [← en] at hn hn0 hl ha
  rw [← ek] at hw
  have n12 : n ≤ 12 := by
    by_cases c : n ≤ 0
    · omega
    · have := (ha (n - 1) (by omega) (by omega)).2
      omega
  have wnew : ∀ k, 0 ≤ k → k < n → (wN σ k).length ≤ 3 ∧ fnd σ (nN σ k) 0 = -1 ∧ ∀ j, 0 ≤ j → j < k → nN σ k ≠ nN σ j := by
    intro k k0 k1
    have b := nB_1 (ha k k0 k1).1
    refine ⟨b.1, b.2.1, fun j j0 j1 z => b.2.2 ?_⟩
    have e := nm_ne E2 (hn k k0 k1).1.2.2.2 (hn j j0 (by omega)).1.2.2.2 z
    exact List.mem_map.mpr ⟨j, (rg_mem 0).mpr ⟨j0, j1⟩, e.symm⟩
  have loop : ∀ k, 0 ≤ k → k ≤ n → ∀ ρ υ, AC σ τ g A kd ρ υ k → ∃ ρ' υ', r_act_568 d ρ k = some (1, ρ') ∧ m_does1_300 d υ k = some (0, υ') ∧ AC σ τ g A kd ρ' υ' n := by
    refine rg_ind (n := n) ?_ ?_
    · intro k h h0 h1 ρ υ H
      have e : k = n := by omega
      subst e
      refine ⟨ρ, υ, ?_, ?_, H⟩
      · rw [e_r_act_568, H.2.2.2.1 fR_names (by decide), ← en, if_neg (by omega)]
      · rw [e_m_does1_300, H.2.2.2.2.1 fM_listSize (by decide), hl.2, if_neg (by omega)]
    · intro k h ih h0 h1 ρ υ H
      obtain ⟨ρ1, υ1, ρ2, υ2, s1, s2, s3, s4, s5, s6⟩ := ac_step ET eA H h0 (by omega) (ha k h0 h).2 (hn k h0 h).1 (hn k h0 h).2 (wnew k h0 h) (d := d) (by omega)
      obtain ⟨ρ', υ', t1, t2, t3⟩ := ih (by omega) (by omega) ρ2 υ2 s6
      refine ⟨ρ', υ', ?_, ?_, t3⟩
      · rw [e_r_act_568, H.2.2.2.1 fR_names (by decide), ← en, if_pos h, ck_ok _ (by omega), ck_ok _ (by omega), H.2.2.2.1 fR_kind0 (by decide), ← ek, s1]
        simp only [Option.bind_some]
        rw [H.2.2.2.1 fR_nameFrom (by decide), H.2.2.2.1 fR_nameTo (by decide), s3]
        simp only [Option.bind_some]
        rw [w32_ok (x := k + 1) (by omega), t1]
      · have s333 : m_does1_333 d υ k kd 11 = some (0, υ') := by
          rw [e_m_does1_333, s2]
          simp only [Option.bind_some]
          rw [s5 fM_listFrom (by decide), H.2.2.2.2.1 fM_listFrom (by decide), hl.1, show (0 : Int) + k = k by omega, w32_ok (x := k) (by omega), s4]
          simp only [Option.bind_some]
          rw [w32_ok (x := k + 1) (by omega), t2]
        rw [e_m_does1_300, H.2.2.2.2.1 fM_listSize (by decide), hl.2, if_pos h, H.2.2.2.2.1 fM_what (by decide)]
        rcases hw with z | z
        · rw [if_pos z.1, ← z.2, s333]
        · have me := m_meansA ET H.2.1 H.2.2.1.1 z.2.1 (d := d) (by omega) 0
          have fn : fnd σ (nmT σ (σ fR_runFrom 0 0) (σ fR_runTo 0 0)) 0 ≠ -1 := fun y => z.2.2.2 (by unfold nR dN; rw [if_pos (Or.inl y)])
          rw [mN_dN (s := 0) (by omega), H.2.2.2.2.2.2.2.2.2.2 _ 0 fn] at me
          have me' : c_m_meansRun d υ (τ fM_what 0 0) 0 = some (kd, υ) := by rw [z.2.2.1]; exact me
          rw [if_neg z.1, me']
          simp only [Option.bind_some]
          exact s333
  obtain ⟨σ', τ', p1, p2, p3⟩ := loop 0 (Int.le_refl _) hn0 σ τ ⟨tkS_r σ, tkT_r τ, D, fr_refl _ _, fr_refl _ _, by omega, by omega, fun i => by rw [if_neg (by omega)], fun i => by rw [if_neg (by omega)], fun nm z _ => z, fun nm s _ => rfl⟩
  obtain ⟨q1, q2, q3, q4, q5, q6, q7, q8, q9, q10, q11⟩ := p3
  have Wc' : WKc σ' τ' := by
    refine ⟨by omega, ?_, by omega, fun a z0 z1 => ?_⟩
    · exact q3.2.2.2.2.1.2.2.2.2.2.2.2.2
    · rw [q8, q9, q4 fW_kinds (by decide)]
      by_cases c : A ≤ a ∧ a < A + n
      · rw [if_pos c, if_pos c]; exact ⟨by omega, by omega, rfl⟩
      · rw [if_neg c, if_neg c]; exact Wc.2.2.2 a z0 (by omega)
  refine ⟨σ', τ', ?_, ?_, q4, q5, ⟨WKk_f Wk (fr_mem q4 (by decide)) (fr_mem q5 (by decide)), WKo_f Wo (fr_mem q4 (by decide)) (fr_mem q5 (by decide)), WKa_f Wa (fr_mem q4 (by decide)) (fr_mem q5 (by decide)), WKt_f Wt (fr_mem q4 (by decide)) (fr_mem q5 (by decide)), WKv_f Wv (fr_mem q4 (by decide)) (fr_mem q5 (by decide)), WKp_f Wp (fr_mem q4 (by decide)) (fr_mem q5 (by decide)), WKr_f Wr (fr_mem q4 (by decide)) (fr_mem q5 (by decide)), WKb_f Wb (fr_mem q4 (by decide)) (fr_mem q5 (by decide)), Wc', q3.2.1, q3.2.2.1⟩, RW5_f R5 q4 (by decide) (by rw [q4 fT_size (by decide), q4 fT_bytes (by decide)]; exact ⟨rfl, rfl⟩) q5 (by decide), q3, q1⟩
  · rw [e_r_act, hs]
    iterate 11 rw [if_neg (by decide)]
    rw [if_pos rfl, p1]
  · rw [e_m_does1, ht]
    iterate 11 rw [if_neg (by decide)]
    rw [if_pos rfl, p2]
end

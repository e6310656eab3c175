/-! the act of a way -/
section
variable {σ τ : ga_S} {f : Int} {N : Nat}
/-- the model looks for the way -/
theorem m_way_l {υ : ga_S} {by' fr' to : Int} (hw : 0 ≤ υ fM_ways 0 0 ∧ υ fM_ways 0 0 ≤ 144) (d : Nat) : ∀ i, 0 ≤ i → (∃ k, i ≤ k ∧ k < υ fM_ways 0 0 ∧ υ fM_wayFrom 0 k = fr' ∧ υ fM_wayBy 0 k = by' ∧ m_doWay_39 d υ by' fr' to i = (if υ fM_wayTo 0 k = to then some (0, υ) else ga_ck (υ fM_listFrom 0 0) 2600 ((c_m_wrong d υ 5 (υ fM_runFrom 0 (υ fM_listFrom 0 0))).bind fun q4 => some (0, q4.2)))) ∨ ((∀ k, i ≤ k → k < υ fM_ways 0 0 → ¬ (υ fM_wayFrom 0 k = fr' ∧ υ fM_wayBy 0 k = by')) ∧ m_doWay_39 d υ by' fr' to i = some (0, ga_up (ga_up (ga_up (ga_up υ fM_wayFrom 0 (υ fM_ways 0 0) fr') fM_wayBy 0 (υ fM_ways 0 0) by') fM_wayTo 0 (υ fM_ways 0 0) to) fM_ways 0 0 (υ fM_ways 0 0 + 1))) := by
  refine rg_ind (n := υ fM_ways 0 0) ?_ ?_
  · intro i h h0
    refine Or.inr ⟨fun k k0 k1 => by omega, ?_⟩
    rw [e_m_doWay_39, if_neg (by omega), ck_ok _ (by omega), ck_ok _ (by omega), ck_ok _ (by omega), w32_ok (x := υ fM_ways 0 0 + 1) (by omega)]
  · intro i h ih h0
    have nx : m_doWay_96 d υ by' fr' to i = m_doWay_39 d υ by' fr' to (i + 1) := by rw [e_m_doWay_96, w32_ok (x := i + 1) (by omega)]
    by_cases c : υ fM_wayFrom 0 i = fr' ∧ υ fM_wayBy 0 i = by'
    · refine Or.inl ⟨i, Int.le_refl _, h, c.1, c.2, ?_⟩
      rw [e_m_doWay_39, if_pos h, ck_ok _ (by omega), if_pos c.1, ck_ok _ (by omega), if_pos c.2, ck_ok _ (by omega)]
    · have st : m_doWay_39 d υ by' fr' to i = m_doWay_39 d υ by' fr' to (i + 1) := by
        rw [← nx, e_m_doWay_39, if_pos h, ck_ok _ (by omega)]
        by_cases c1 : υ fM_wayFrom 0 i = fr'
        · rw [if_pos c1, ck_ok _ (by omega), if_neg (fun z => c ⟨c1, z⟩)]
        · rw [if_neg c1]
      rw [st]
      rcases ih (by omega) with ⟨k, k0, k1, k2, k3, k4⟩ | ⟨k0, k1⟩
      · exact Or.inl ⟨k, by omega, k1, k2, k3, k4⟩
      · refine Or.inr ⟨fun k z0 z1 => ?_, k1⟩
        by_cases e : k = i
        · rw [e]; exact c
        · exact k0 k (by omega) z1
theorem way_room {ρ υ : ga_S} (R : RWy ρ υ) (ho : ρ fW_objects 0 0 ≤ 24) {o b : Int} (h1 : 0 ≤ o ∧ o < ρ fW_objects 0 0) (h2 : 0 ≤ b ∧ b < 6) (new : ∀ k, 0 ≤ k → k < ρ fW_toldWays 0 0 → ¬ (ρ fW_wayFrom 0 k = o ∧ ρ fW_wayBy 0 k = b)) : ρ fW_toldWays 0 0 < 144 := by
  obtain ⟨⟨q0, _⟩, q2, q3, _⟩ := R
  obtain ⟨n, en⟩ : ∃ n : Nat, ρ fW_toldWays 0 0 = n := ⟨(ρ fW_toldWays 0 0).toNat, by omega⟩
  rw [en] at q2 q3 new ⊢
  have p := pigeon 144 (n + 1) (fun i => if (i : Int) < n then (6 * ρ fW_wayFrom 0 i + ρ fW_wayBy 0 i).toNat else (6 * o + b).toNat) (fun i hi => by
      show (if (i : Int) < n then (6 * ρ fW_wayFrom 0 i + ρ fW_wayBy 0 i).toNat else (6 * o + b).toNat) < 144
      by_cases c : (i : Int) < n
      · rw [if_pos c]; have := q2 i (by omega) c; omega
      · rw [if_neg c]; omega) (fun i j hi hj e => by
      have e' : (if (i : Int) < n then (6 * ρ fW_wayFrom 0 i + ρ fW_wayBy 0 i).toNat else (6 * o + b).toNat) = (if (j : Int) < n then (6 * ρ fW_wayFrom 0 j + ρ fW_wayBy 0 j).toNat else (6 * o + b).toNat) := e
      by_cases c : (i : Int) < n <;> by_cases c2 : (j : Int) < n
      · rw [if_pos c, if_pos c2] at e'
        have a := q2 i (by omega) c
        have a2 := q2 j (by omega) c2
        have := q3 i j (by omega) c (by omega) c2 (by omega) (by omega)
        omega
      · exfalso
        rw [if_pos c, if_neg c2] at e'
        have a := q2 i (by omega) c
        exact new i (by omega) c ⟨by omega, by omega⟩
      · exfalso
        rw [if_neg c, if_pos c2] at e'
        have a := q2 j (by omega) c2
        exact new j (by omega) c2 ⟨by omega, by omega⟩
      · omega)
  omega
def a14C : List Nat := ojC ++ [fW_wayFrom, fW_wayBy, fW_toldWays, fR_latest] ++ ntL
def a14M : List Nat := ojM ++ [fM_described, fM_wayFrom, fM_wayBy, fM_wayTo, fM_ways, fM_bestFault, fM_bestPlace]
theorem act_14 (E : E0 σ τ f N) {g : Int} (D : DW σ τ g) (R5 : RW5 σ τ) (kb : kb0 σ τ) (hf : σ fR_fault 0 0 = 0) (hb : τ fM_bestFault 0 0 = 0) (hs : σ fR_sort 0 0 = 14) (ht : τ fM_sort 0 0 = 14) (RN : RU σ τ f N 0 (σ fR_nameFrom 0 0) (σ fR_nameTo 0 0)) (ln : σ fR_nameFrom 0 0 < σ fR_nameTo 0 0) (hl : τ fM_listFrom 0 0 = 0) (R0 : RU σ τ f N (τ fM_what 0 0) (σ fR_runFrom 0 0) (σ fR_runTo 0 0)) (R1 : RU σ τ f N (τ fM_placeRun 0 0) (σ fR_runFrom 0 1) (σ fR_runTo 0 1)) (hk : σ fR_kind0 0 0 = dN σ (nR σ 0) 9) (hk1 : dN σ (nR σ 0) 9 ≠ -1) (ho : σ fR_object0 0 0 = dN σ (nR σ 1) 2) (ho1 : dN σ (nR σ 1) 2 ≠ -1) (hn : dN σ (nN σ 0) 2 ≠ -1 ∨ (fnd σ (nN σ 0) 0 = -1 ∧ nB σ (wN σ 0) [] = true ∧ σ fW_objects 0 0 < 24)) (hr1 : isB (σ fW_parents 0) (σ fW_kindOf 0 (dN σ (nR σ 1) 2)) 1 = true) (hr0 : dN σ (nN σ 0) 2 ≠ -1 → isB (σ fW_parents 0) (σ fW_kindOf 0 (dN σ (nN σ 0) 2)) 1 = true) {d : Nat} (hd : 7 ≤ d) (first : Int) : ∃ b σ' τ', c_r_act (d + 2) σ = some (b, σ') ∧ c_m_does1 (d + 2) τ first = some (0, τ') ∧ fr a14C σ σ' ∧ fr a14M τ τ' ∧ ((b = 1 ∧ σ' fR_fault 0 0 = 0 ∧ τ' fM_bestFault 0 0 = 0 ∧ AW σ τ g σ' τ' ∧ τ' fM_described 0 0 = σ' fR_latest 0 0 ∧ 0 ≤ σ' fR_latest 0 0 ∧ σ' fR_latest 0 0 < σ' fW_objects 0 0) ∨ (b = 0 ∧ AF σ' τ' 5 (σ fT_places 0 (σ fR_nameFrom 0 0)))) := by
  have E' := E
  obtain ⟨E1, E2, E3, E4⟩ := E
  have ET : ENV σ τ f N ∧ TOK σ τ f N := ⟨E1, E2⟩
  have A0 : AW σ τ g σ τ := ⟨tkS_r σ, tkT_r τ, E4, R5, D, kb, NW_e rfl rfl⟩
  obtain ⟨K, eK⟩ : ∃ x, x = dN σ (nR σ 0) 9 := ⟨_, rfl⟩
  obtain ⟨M, eM'⟩ : ∃ x, x = dN σ (nR σ 1) 2 := ⟨_, rfl⟩
  have rK := e0_dN E' (nR σ 0) 9
  have rM := e0_dN E' (nR σ 1) 2
  have m9 : mxN σ 9 = 6 := rfl
  have m2 : mxN σ 2 = σ fW_objects 0 0 := rfl
  rw [← eK] at rK hk hk1
  rw [← eM'] at rM ho ho1 hr1
  have t0 := frB_t RN.2.2.2
  have hN5 := E1.2.2.1
  have fN := E1.2.1
  have f0 := E1.1
  have k5 := E4.1.2.1
  have hn' : dN σ (nmT σ (σ fR_nameFrom 0 0) (σ fR_nameTo 0 0)) 2 ≠ -1 ∨ (fnd σ (nmT σ (σ fR_nameFrom 0 0) (σ fR_nameTo 0 0)) 0 = -1 ∧ σ fR_nameTo 0 0 - σ fR_nameFrom 0 0 ≤ 3 ∧ σ fW_objects 0 0 < 24) := by
    rcases hn with z | z
    · exact Or.inl z
    · have l := wsT_len (σ := σ) RN.2.2.2.2.1
      have := (nB_1 z.2.1).1
      unfold wN at this
      exact Or.inr ⟨z.1, by omega, z.2.2⟩
  obtain ⟨o, ρ, υ, j1, j2, j3, j4, j5, j6, j7, j8, j9, j10, j11, j12⟩ := obj_J ET A0 (r := 0) (kd := 1) (k := 0) RN ln (by omega) hn' (by omega) rfl rfl (d := d) (d' := d) (by omega) (by omega)
  have AA := j5
  obtain ⟨A1, A2, A3, A4, A5, A6⟩ := j5
  obtain ⟨υ1, e1⟩ : ∃ x, x = ga_up υ fM_described 0 0 o := ⟨_, rfl⟩
  have f1 : fr [fM_described] υ υ1 := by rw [e1]; exact fr_u (by decide)
  have xo : ρ fR_object0 0 0 = M := by rw [j3 _ (by decide)]; exact ho
  have xk : ρ fR_kind0 0 0 = K := by rw [j3 _ (by decide)]; exact hk
  have ob : σ fW_objects 0 0 ≤ ρ fW_objects 0 0 := by
    rw [j8]
    by_cases c : dN σ (nmT σ (σ fR_nameFrom 0 0) (σ fR_nameTo 0 0)) 2 = -1
    · rw [if_pos c]; omega
    · rw [if_neg c]; omega
  have Ry := A4.2.2.2.1
  have ep : ρ fW_parents = σ fW_parents := j3 _ (by decide)
  have rmM : isB (ρ fW_parents 0) (ρ fW_kindOf 0 M) 1 = true := by rw [ep, j11 M (by omega) (by omega)]; exact hr1
  have rmo : isB (ρ fW_parents 0) (ρ fW_kindOf 0 o) 1 = true := by
    by_cases c : dN σ (nmT σ (σ fR_nameFrom 0 0) (σ fR_nameTo 0 0)) 2 = -1
    · rw [j12 c]
      exact isB_rf A3.1.1 (by decide) (by have := A3.1.2.1; omega)
    · have fn : fnd σ (nmT σ (σ fR_nameFrom 0 0) (σ fR_nameTo 0 0)) 0 ≠ -1 := fun z => c (by unfold dN; rw [if_pos (Or.inl z)])
      have eo : o = dN σ (nmT σ (σ fR_nameFrom 0 0) (σ fR_nameTo 0 0)) 2 := by rw [← j6]; exact (j9 _ fn).2 2
      have rn := e0_dN E' (nmT σ (σ fR_nameFrom 0 0) (σ fR_nameTo 0 0)) 2
      rw [← eo] at rn
      rw [ep, j11 o (by omega) (by omega), eo]
      exact hr0 c
  have o24 := A3.2.1.2.1
  have tw : υ1 fM_ways 0 0 = ρ fW_toldWays 0 0 := by rw [f1 _ (by decide)]; exact Ry.1.2
  have topC : ∀ b ρ', (b = 0 ∨ b = 1) → c_r_way (d + 1) σ = some (b, ρ') → c_r_act (d + 2) σ = some (b, ρ') := by
    intro b ρ' hb' h
    rw [e_r_act, hs]
    iterate 14 rw [if_neg (by decide)]
    rw [if_pos rfl, h]
    simp only [Option.bind_some]
    rw [z1_ok _ hb']
  have topM : ∀ ρ', m_doWay_39 d υ1 K M o 0 = some (0, ρ') → c_m_does1 (d + 2) τ first = some (0, ρ') := by
    intro ρ' h
    have b1 : c_m_meansRun d τ (τ fM_what 0 0) 12 = some (K, τ) := by rw [m_meansA ET (tkT_r τ) E3 R0 (by omega) 12, mN_dN (s := 9) (by omega), eK]; rfl
    have b2 : c_m_meansRun d τ (τ fM_placeRun 0 0) 4 = some (M, τ) := by rw [m_meansA ET (tkT_r τ) E3 R1 (by omega) 4, mN_dN (s := 2) (by omega), eM']; rfl
    have dw : c_m_doWay (d + 1) τ = some (0, ρ') := by
      rw [e_m_doWay, b1]
      simp only [Option.bind_some]
      rw [b2]
      simp only [Option.bind_some]
      rw [hl, j2]
      simp only [Option.bind_some]
      rw [← e1, h]
    rw [e_m_does1, ht]
    iterate 14 rw [if_neg (by decide)]
    rw [if_pos rfl, dw]
    rfl
  have runC := e_r_way d σ
  rw [j1] at runC
  simp only [Option.bind_some] at runC
  rw [xo, xk, ck_ok _ (by omega), nn_ok _ (by omega), ck_ok _ (by omega)] at runC
  -- the relation of the ways once more
  have lm := m_way_l (υ := υ1) (by' := K) (fr' := M) (to := o) (by
    have : ρ fW_toldWays 0 0 ≤ 144 := by
      refine Classical.byContradiction fun z => ?_
      obtain ⟨⟨q0, _⟩, q2, q3, _⟩ := Ry
      have p := pigeon 144 145 (fun i => (6 * ρ fW_wayFrom 0 i + ρ fW_wayBy 0 i).toNat) (fun i hi => by
        show (6 * ρ fW_wayFrom 0 i + ρ fW_wayBy 0 i).toNat < 144
        have := q2 i (by omega) (by omega); omega) (fun i j hi hj e => by
        have e' : (6 * ρ fW_wayFrom 0 i + ρ fW_wayBy 0 i).toNat = (6 * ρ fW_wayFrom 0 j + ρ fW_wayBy 0 j).toNat := e
        have a := q2 i (by omega) (by omega)
        have a2 := q2 j (by omega) (by omega)
        have := q3 i j (by omega) (by omega) (by omega) (by omega) (by omega) (by omega)
        omega)
      omega
    have := Ry.1.1
    omega) d 0 (Int.le_refl _)
  rw [tw] at lm
  have fr1 : fr a14M τ υ1 := fr_trans (fr_sub j4 (by decide)) (fr_sub f1 (by decide))
  have hf2 : ρ fR_fault 0 0 = 0 := by rw [j3 _ (by decide)]; exact hf
  have hb2 : υ1 fM_bestFault 0 0 = 0 := by rw [f1 _ (by decide), j4 _ (by decide)]; exact hb
  rcases lm with ⟨k, k0, k1, k2, k3, k4⟩ | ⟨k0, k1⟩
  · -- it is told already
    rw [f1 fM_wayFrom (by decide)] at k2
    rw [f1 fM_wayBy (by decide)] at k3
    have w := Ry.2.1 k k0 k1
    have ew : ρ fW_ways M K = υ fM_wayTo 0 k := by rw [w.2.2.2.2.1, ← w.2.2.1, k2, ← w.2.2.2.1, k3]
    have wn : ρ fW_ways M K ≠ -1 := by rw [ew, w.2.2.2.2.1]; omega
    rw [if_neg wn] at runC
    rw [f1 fM_wayTo (by decide), ← ew] at k4
    by_cases c : ρ fW_ways M K = o
    · rw [if_pos c, e_r_way_46, if_neg wn, e_r_way_114] at runC
      rw [if_pos c] at k4
      obtain ⟨ρ2, e2⟩ : ∃ x, x = ga_up ρ fR_latest 0 0 o := ⟨_, rfl⟩
      rw [← e2] at runC
      have f2 : fr [fR_latest] ρ ρ2 := by rw [e2]; exact fr_u (by decide)
      have la : ρ2 fR_latest 0 0 = o := by rw [e2, up_eq]
      refine ⟨1, ρ2, υ1, topC 1 ρ2 (Or.inr rfl) runC, topM υ1 k4, fr_trans (fr_sub j3 (by decide)) (fr_sub f2 (by decide)), fr1, Or.inl ⟨rfl, by rw [f2 _ (by decide)]; exact hf2, hb2, AW_f AA f2 (by decide) f1 (by decide), ?_, ?_, ?_⟩⟩
      · rw [la, e1, up_eq]
      · omega
      · rw [la, f2 _ (by decide)]; exact j7.2
    · obtain ⟨ρ2, o1, o2, o3, o4⟩ := k_otherwise hf2 (t := σ fR_nameFrom 0 0) (by omega) (d := d) (by omega)
      rw [if_neg c, j3 fR_nameFrom (by decide), o1] at runC
      simp only [Option.bind_some] at runC
      rw [z1_ok _ (Or.inl rfl)] at runC
      have hl1 : υ1 fM_listFrom 0 0 = 0 := by rw [f1 _ (by decide), j4 _ (by decide)]; exact hl
      have rf1 : υ1 fM_runFrom 0 0 = f + σ fR_nameFrom 0 0 := by rw [f1 _ (by decide), j4 _ (by decide)]; exact RN.2.1
      obtain ⟨υ2, w1, w2, w3, w4⟩ := m_wrongA hb2 (t := f + σ fR_nameFrom 0 0) (why := 5) (by omega) (d := d) (by omega)
      rw [if_neg c, hl1, ck_ok _ (by omega), rf1, w1] at k4
      simp only [Option.bind_some] at k4
      refine ⟨0, ρ2, υ2, topC 0 ρ2 (Or.inl rfl) runC, topM υ2 k4, fr_trans (fr_sub j3 (by decide)) (fr_sub o2 (by decide)), fr_trans fr1 (fr_sub w2 (by decide)), Or.inr ⟨rfl, o3, ?_, w3, ?_⟩⟩
      · rw [o4, j3 _ (by decide)]
      · rw [w4, f1 _ (by decide), j4 _ (by decide)]
        exact (E2.2.1 _ t0.1 (by omega)).2.2.2
  · -- a new one
    have nw : ∀ k, 0 ≤ k → k < ρ fW_toldWays 0 0 → ¬ (ρ fW_wayFrom 0 k = M ∧ ρ fW_wayBy 0 k = K) := by
      intro k z0 z1 z2
      have w := Ry.2.1 k z0 z1
      refine k0 k z0 z1 ⟨?_, ?_⟩
      · rw [f1 _ (by decide), w.2.2.1]; exact z2.1
      · rw [f1 _ (by decide), w.2.2.2.1]; exact z2.2
    have w0 : ρ fW_ways M K = -1 := by
      rcases Ry.2.2.2 M K (by omega) (by omega) (by omega) (by omega) with z | ⟨k, z0, z1, z2, z3⟩
      · exact z
      · exact absurd ⟨z2, z3⟩ (nw k z0 z1)
    have rm := way_room Ry o24 (o := M) (b := K) (by omega) (by omega) nw
    have t00 := Ry.1.1
    obtain ⟨n, en⟩ : ∃ x, x = ρ fW_toldWays 0 0 := ⟨_, rfl⟩
    rw [← en] at rm t00 k1
    rw [if_pos w0, e_r_way_46, if_pos w0, xo, xk, ck_ok _ (by omega), nn_ok _ (by omega), ck_ok _ (by omega), ← en, ck_ok _ (by omega), ck_ok _ (by omega), e_r_way_114, w32_ok (x := n + 1) (by omega)] at runC
    obtain ⟨ρ1, ea⟩ : ∃ x, x = ga_up (ga_up (ga_up (ga_up ρ fW_ways M K o) fW_wayFrom 0 n M) fW_toldWays 0 0 (n + 1)) fW_wayBy 0 n K := ⟨_, rfl⟩
    rw [← ea] at runC
    obtain ⟨ρ2, e2⟩ : ∃ x, x = ga_up ρ1 fR_latest 0 0 o := ⟨_, rfl⟩
    rw [← e2] at runC
    obtain ⟨υ2, e3⟩ : ∃ x, x = ga_up (ga_up (ga_up (ga_up υ1 fM_wayFrom 0 n M) fM_wayBy 0 n K) fM_wayTo 0 n o) fM_ways 0 0 (n + 1) := ⟨_, rfl⟩
    rw [← e3] at k1
    have f2 : fr [fR_latest] ρ1 ρ2 := by rw [e2]; exact fr_u (by decide)
    have fa : fr [fW_ways, fW_wayFrom, fW_toldWays, fW_wayBy] ρ ρ1 := by rw [ea]; exact fr_trans (fr_u (by decide)) (fr_trans (fr_u (by decide)) (fr_trans (fr_u (by decide)) (fr_u (by decide))))
    have f3 : fr [fM_wayFrom, fM_wayBy, fM_wayTo, fM_ways] υ1 υ2 := by rw [e3]; exact fr_trans (fr_u (by decide)) (fr_trans (fr_u (by decide)) (fr_trans (fr_u (by decide)) (fr_u (by decide))))
    have la : ρ2 fR_latest 0 0 = o := by rw [e2, up_eq]
    have x1 : ρ1 fW_toldWays 0 0 = n + 1 := by rw [ea, up_F (by decide), up_eq]
    have x2 : ∀ i, ρ1 fW_wayFrom 0 i = if i = n then M else ρ fW_wayFrom 0 i := by intro i; rw [ea, up_F (by decide), up_F (by decide), up_at, up_F (by decide)]
    have x3 : ∀ i, ρ1 fW_wayBy 0 i = if i = n then K else ρ fW_wayBy 0 i := by intro i; rw [ea, up_at, up_F (by decide), up_F (by decide), up_F (by decide)]
    have x4 : ∀ r i, ρ1 fW_ways r i = if r = M ∧ i = K then o else ρ fW_ways r i := by intro r i; rw [ea, up_F (by decide), up_F (by decide), up_F (by decide), up_nat]
    have y1 : υ2 fM_ways 0 0 = n + 1 := by rw [e3, up_eq]
    have y2 : ∀ i, υ2 fM_wayFrom 0 i = if i = n then M else υ fM_wayFrom 0 i := by intro i; rw [e3, up_F (by decide), up_F (by decide), up_F (by decide), up_at, f1 _ (by decide)]
    have y3 : ∀ i, υ2 fM_wayBy 0 i = if i = n then K else υ fM_wayBy 0 i := by intro i; rw [e3, up_F (by decide), up_F (by decide), up_at, up_F (by decide), f1 _ (by decide)]
    have y4 : ∀ i, υ2 fM_wayTo 0 i = if i = n then o else υ fM_wayTo 0 i := by intro i; rw [e3, up_F (by decide), up_at, up_F (by decide), up_F (by decide), f1 _ (by decide)]
    have Ry1 : RWy ρ1 υ2 := by
      obtain ⟨q1, q2, q3, q4⟩ := Ry
      rw [← en] at q1 q2 q3 q4 nw
      unfold RWy
      rw [x1, y1, fa fW_objects (by decide), fa fW_kindOf (by decide), fa fW_parents (by decide)]
      refine ⟨⟨by omega, rfl⟩, fun i z0 z1 => ?_, fun i j z0 z1 z2 z3 z4 z5 => ?_, fun i b z0 z1 z2 z3 => ?_⟩
      · rw [x2, x3, y2, y3, y4]
        by_cases c : i = n
        · rw [if_pos c, if_pos c, if_pos c, if_pos c, if_pos c, x4, if_pos ⟨rfl, rfl⟩]
          exact ⟨by omega, by omega, rfl, rfl, rfl, by omega, by omega, rmM, rmo⟩
        · have w := q2 i z0 (by omega)
          rw [if_neg c, if_neg c, if_neg c, if_neg c, if_neg c, x4, if_neg (nw i z0 (by omega))]
          exact w
      · rw [x2, x2] at z4
        rw [x3, x3] at z5
        by_cases c : i = n <;> by_cases c2 : j = n
        · omega
        · exfalso
          rw [if_pos c, if_neg c2] at z4 z5
          exact nw j z2 (by omega) ⟨z4.symm, z5.symm⟩
        · exfalso
          rw [if_neg c, if_pos c2] at z4 z5
          exact nw i z0 (by omega) ⟨z4, z5⟩
        · rw [if_neg c, if_neg c2] at z4 z5
          exact q3 i j z0 (by omega) z2 (by omega) z4 z5
      · rw [x4]
        by_cases c : i = M ∧ b = K
        · refine Or.inr ⟨n, by omega, by omega, ?_, ?_⟩
          · rw [x2, if_pos rfl]; exact c.1.symm
          · rw [x3, if_pos rfl]; exact c.2.symm
        · rw [if_neg c]
          rcases q4 i b z0 z1 z2 z3 with w | ⟨k, w0, w1, w2, w3⟩
          · exact Or.inl w
          · refine Or.inr ⟨k, w0, by omega, ?_, ?_⟩
            · rw [x2, if_neg (by omega)]; exact w2
            · rw [x3, if_neg (by omega)]; exact w3
    have AW1 : AW σ τ g ρ1 υ2 := by
      have B := AW_f AA (fr_refl [] ρ) (by decide) f1 (by decide)
      obtain ⟨B1, B2, ⟨Wk, Wo, Wa, Wt, Wv, Wp, Wr, Wb, Wc, Wd, Wl⟩, B4, B5, B6⟩ := B
      have D' : DW ρ1 υ2 g := DW_cm (DW_sp B5 fa (by decide)) (fun _ _ => rfl) (fun _ _ => Int.le_refl _) (fr_mem f3 (by decide)) (DW_sp B5 fa (by decide)).2.2.2.2.1
      exact ⟨tkS_f B1 fa (by decide), tkT_f B2 f3 (by decide), ⟨WKk_f Wk (fr_mem fa (by decide)) (fr_mem f3 (by decide)), WKo_f Wo (fr_mem fa (by decide)) (fr_mem f3 (by decide)), WKa_f Wa (fr_mem fa (by decide)) (fr_mem f3 (by decide)), WKt_f Wt (fr_mem fa (by decide)) (fr_mem f3 (by decide)), WKv_f Wv (fr_mem fa (by decide)) (fr_mem f3 (by decide)), WKp_f Wp (fr_mem fa (by decide)) (fr_mem f3 (by decide)), WKr_f Wr (fr_mem fa (by decide)) (fr_mem f3 (by decide)), WKb_f Wb (fr_mem fa (by decide)) (fr_mem f3 (by decide)), WKc_f Wc (fr_mem fa (by decide)) (fr_mem f3 (by decide)), D'.2.1, D'.2.2.1⟩, ⟨RWt_f B4.1 (fr_mem fa (by decide)) (fr_mem f3 (by decide)), RWh_f B4.2.1 (fr_mem fa (by decide)) (by rw [fa fT_size (by decide), fa fT_bytes (by decide)]; exact ⟨rfl, rfl⟩) (fr_mem f3 (by decide)), RWp_f B4.2.2.1 (fr_mem fa (by decide)) (fr_mem f3 (by decide)), Ry1, RWe_f B4.2.2.2.2 (fr_mem fa (by decide)) (fr_mem f3 (by decide))⟩, D', kb0_f B6.1 (fr_mem fa (by decide)) (f3 _ (by decide)), NW_f B6.2 (fr_mem fa (by decide))⟩
    refine ⟨1, ρ2, υ2, topC 1 ρ2 (Or.inr rfl) runC, topM υ2 k1, fr_trans (fr_sub j3 (by decide)) (fr_trans (fr_sub fa (by decide)) (fr_sub f2 (by decide))), fr_trans fr1 (fr_sub f3 (by decide)), Or.inl ⟨rfl, by rw [f2 _ (by decide), fa _ (by decide)]; exact hf2, by rw [f3 _ (by decide)]; exact hb2, AW_f AW1 f2 (by decide) (fr_refl [] υ2) (by decide), ?_, ?_, ?_⟩⟩
    · rw [la, f3 _ (by decide), e1, up_eq]
    · omega
    · rw [la, f2 _ (by decide), fa _ (by decide)]; exact j7.2
end

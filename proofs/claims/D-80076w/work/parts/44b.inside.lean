/-! what stands in a bracket is said: the model's way to it -/
section
variable {σ τ σ' : ga_S}
def sdF : List Nat := dicL ++ [fW_parents, fW_kindOf, fW_propertyKinds]
theorem brV_e (h : ∀ F, F ∈ sdF → σ' F = σ F) : brV σ' = brV σ ∧ inTh σ' = inTh σ := by
  have hd : ∀ F, F ∈ dicL → σ' F = σ F := fun F hF => h F (List.mem_append_left _ hF)
  have e1 : inTh σ' = inTh σ := by
    funext k nm nk i j
    unfold inTh
    rw [(dic_c hd).2.1]
  refine ⟨?_, e1⟩
  funext k nm nk n
  unfold brV own kdT
  rw [e1, (dic_c hd).2.1, h fW_parents (by decide), h fW_kindOf (by decide), h fW_propertyKinds (by decide)]
theorem sdV_e (h : ∀ F, F ∈ sdF → σ' F = σ F) (B : Int → Int) (nk e : Int) : ∀ (n : Nat) (p : Int), sdV σ' B nk e n p = sdV σ B nk e n p
  | 0, _ => rfl
  | n + 1, p => by
    unfold sdV brB
    rw [(brV_e h).1, sdV_e h B nk e n, sdV_e h B nk e n]
theorem sI_go {k : Int → Int} {nm : Int → Int → List Int} {M : Nat} {nk : Int} {d : Nat} (hM : τ fM_insides 0 0 = M) (M64 : (M : Int) ≤ 64) (k0 : ∀ q, 0 ≤ k q) (key : ∀ q : Int, 0 ≤ q → q < M → c_m_keyOf d τ (τ fM_inside 0 q) = some (mK (k q), τ)) (thg : ∀ i : Int, 0 ≤ i → i ≤ M → c_m_insideThing d τ i = some (mT (inTh σ k nm nk i M), τ)) (tr : ∀ i, inTh σ k nm nk i M = -1 ∨ thO σ (-1) nk (inTh σ k nm nk i M)) (hb : brV σ k nm nk M = true) : (ofK k M = M ∧ inTh σ k nm nk 0 M ≠ -1 ∧ ∃ V, c_m_saysInside (d + 1) τ = m_saysInside_124 d τ V 0 (mT (inTh σ k nm nk 0 M)) (if inTh σ k nm nk 0 M = -3 then τ fM_nounObject 0 0 else inTh σ k nm nk 0 M)) ∨ (2 ≤ ofK k M ∧ ofK k M < M ∧ frK k 1 (ofK k M) = true ∧ inTh σ k nm nk (ofK k M + 1) M ≠ -1 ∧ dN σ (nm 1 (ofK k M)) 5 ≠ -1 ∧ own σ (kdT σ (-1) nk (inTh σ k nm nk (ofK k M + 1) M)) (dN σ (nm 1 (ofK k M)) 5) = true ∧ c_m_saysInside (d + 1) τ = m_saysInside_124 d τ (ofK k M) 1 (mT (inTh σ k nm nk (ofK k M + 1) M)) (if inTh σ k nm nk (ofK k M + 1) M = -3 then τ fM_nounObject 0 0 else inTh σ k nm nk (ofK k M + 1) M)) := by
  obtain ⟨V, eV⟩ : ∃ z, z = sk (fun q => decide (k q = 0)) (M : Int) 1 := ⟨_, rfl⟩
  have sv := sk_all (f := fun q => decide (k q = 0)) (n := (M : Int)) 1
  rw [← eV] at sv
  have l2 : ∀ q, 0 ≤ q → m_saysInside_2 d τ q = m_saysInside_30 d τ (sk (fun q => decide (k q = 0)) (M : Int) q) := by
    refine pos_ind (M : Int) fun q ih x0 => ?_
    rw [e_m_saysInside_2, hM]
    by_cases y : q < (M : Int)
    · rw [if_pos y, ck_ok _ (by omega), key q x0 y]
      simp only [Option.bind_some]
      by_cases z : k q = 0
      · rw [if_pos ((mK_3 (k0 _)).mpr z), w32_ok (by omega), ih (q + 1) (by omega) y (by omega), sk_s (f := fun q => decide (k q = 0)) y (decide_eq_true z)]
      · rw [if_neg (fun v => z ((mK_3 (k0 _)).mp v)), sk_x (f := fun q => decide (k q = 0)) y (decide_eq_false z)]
    · rw [if_neg y, sk_n (by omega)]
  have so := sk_all (f := fun q => decide (k q ≠ 16)) (n := (M : Int)) 0
  have eo : sk (fun q => decide (k q ≠ 16)) (M : Int) 0 = ofK k M := rfl
  rw [eo] at so
  have ol := so.2.1 (by omega)
  have s98 : ∀ i v1 v2 : Int, 0 ≤ i → i ≤ M → inTh σ k nm nk i M ≠ -1 → m_saysInside_98 d τ v1 v2 i = m_saysInside_124 d τ v1 v2 (mT (inTh σ k nm nk i M)) (if inTh σ k nm nk i M = -3 then τ fM_nounObject 0 0 else inTh σ k nm nk i M) := by
    intro i v1 v2 x y z
    have m9 := mT_9 (tr i)
    rw [e_m_saysInside_98, thg i x y, Option.bind_some]
    refine (if_neg (fun v => z (m9.mp v))).trans ?_
    by_cases t3 : inTh σ k nm nk i M = -3
    · rw [t3]
      exact if_pos rfl
    · have t := (tr i).resolve_left z
      have t0 : 0 ≤ inTh σ k nm nk i M := by
        rcases t with u | u | u
        · exact absurd rfl u.2
        · exact absurd u.1 t3
        · exact u.1
      have em : mT (inTh σ k nm nk i M) = inTh σ k nm nk i M := by unfold mT; rw [if_neg z, if_neg (by omega), if_neg t3]
      rw [em, if_neg t3]
      exact if_neg (by show ¬ inTh σ k nm nk i M = -2; omega)
  have run : c_m_saysInside (d + 1) τ = m_saysInside_30 d τ V := by rw [e_m_saysInside, l2 1 (by decide), ← eV]
  by_cases o : ofK k M = M
  · left
    have n0 : inTh σ k nm nk 0 M ≠ -1 := by
      unfold brV at hb
      rw [if_pos o] at hb
      exact of_decide_eq_true hb
    have no16 : ∀ q : Int, 0 ≤ q → q < M → k q ≠ 16 := fun q x y => of_decide_eq_true (so.2.2.2 q x (by omega))
    refine ⟨o, n0, V, ?_⟩
    have p84 : m_saysInside_84 d τ V = m_saysInside_124 d τ V 0 (mT (inTh σ k nm nk 0 M)) (if inTh σ k nm nk 0 M = -3 then τ fM_nounObject 0 0 else inTh σ k nm nk 0 M) := by
      rw [e_m_saysInside_84, e_m_saysInside_85, if_pos rfl, s98 0 V 0 (Int.le_refl _) (by omega) n0]
    rw [run, e_m_saysInside_30, hM]
    by_cases i1 : 0 < (M : Int)
    · rw [if_pos i1, key 0 (Int.le_refl _) i1]
      simp only [Option.bind_some]
      by_cases i2 : k 0 = 11
      · rw [if_pos ((mK_11 _).mpr i2)]
        by_cases i3 : 1 < V
        · rw [if_pos i3, hM]
          by_cases i4 : V < M
          · rw [if_pos i4, ck_ok _ (by omega), key V (by omega) i4]
            simp only [Option.bind_some]
            rw [if_neg (fun v => no16 V (by omega) i4 ((mK_16 _).mp v)), p84]
          · rw [if_neg i4, p84]
        · rw [if_neg i3, p84]
      · rw [if_neg (fun v => i2 ((mK_11 _).mp v)), p84]
    · rw [if_neg i1, p84]
  · right
    unfold brV at hb
    rw [if_neg o] at hb
    by_cases o2 : ofK k M < 2 ∨ k 0 ≠ 11 ∨ frK k 1 (ofK k M) = false
    · rw [if_pos o2] at hb; cases hb
    · rw [if_neg o2] at hb
      rw [Bool.and_eq_true, Bool.and_eq_true] at hb
      obtain ⟨⟨h1, h2⟩, h3⟩ := hb
      have h1 := of_decide_eq_true h1
      have h2 := of_decide_eq_true h2
      have k00 : k 0 = 11 := Classical.byContradiction fun v => o2 (Or.inr (Or.inl v))
      have f1 : frK k 1 (ofK k M) = true := by
        cases e : frK k 1 (ofK k M) with
        | true => rfl
        | false => exact absurd (Or.inr (Or.inr e)) o2
      have o1 : ¬ ofK k M < 2 := fun v => o2 (Or.inl v)
      have k16 : k (ofK k M) = 16 := by
        have := so.2.2.1 (by omega)
        exact Classical.byContradiction fun v => absurd (of_decide_eq_false this) (fun u => u v)
      have f1' := f1
      unfold frK at f1'
      have fq := rg_allI.mp f1'
      have vl := sv.2.1 (by omega)
      have eq : V = ofK k M := by
        refine Int.le_antisymm ?_ ?_
        · refine Classical.byContradiction fun v => ?_
          have := of_decide_eq_true (sv.2.2.2 (ofK k M) (by omega) (by omega))
          omega
        · refine Classical.byContradiction fun v => ?_
          have h1 := fq V sv.1 (by omega)
          have h2 := sv.2.2.1 (by omega)
          rw [h1] at h2; cases h2
      refine ⟨by omega, by omega, f1, h1, h2, h3, ?_⟩
      rw [run, e_m_saysInside_30, hM, if_pos (by omega), key 0 (Int.le_refl _) (by omega)]
      simp only [Option.bind_some]
      rw [if_pos ((mK_11 _).mpr k00), if_pos (by omega), hM, if_pos (by omega), ck_ok _ (by omega), key V (by omega) (by omega)]
      simp only [Option.bind_some]
      rw [if_pos ((mK_16 _).mpr (by rw [eq]; exact k16)), e_m_saysInside_85, if_neg (by decide), w32_ok (by omega), eq, s98 (ofK k M + 1) (ofK k M) 1 (by omega) (by omega) h1]
end

/-! new values -/
section
variable {σ τ : ga_S} {f : Int} {N : Nat}
theorem dN_11 (E : E0 σ τ f N) (nm : List Int) : dN σ nm 11 = -1 ∨ (0 ≤ dN σ nm 11 ∧ dN σ nm 11 < σ fW_kinds 0 0) ∨ (100 ≤ dN σ nm 11 ∧ dN σ nm 11 < 100 + σ fW_types 0 0) := by
  unfold dN
  by_cases c : fnd σ nm 0 = -1 ∨ ¬ σ fD_sorts 0 (fnd σ nm 0) = 11
  · rw [if_pos c]; exact Or.inl rfl
  · rw [if_neg c]
    have c1 : fnd σ nm 0 ≠ -1 := fun z => c (Or.inl z)
    have c2 : σ fD_sorts 0 (fnd σ nm 0) = 11 := Classical.byContradiction fun z => c (Or.inr z)
    have f0 := (fnd_r (σ := σ) (nm := nm) (Int.le_refl 0)).resolve_left c1
    have lv : live σ (fnd σ nm 0) := ⟨f0.1, f0.2.1, f0.2.2.1⟩
    have a := (E.2.2.1.2.2.2.2.2.2.2 _ lv).2.2.2.1
    rcases ((e0_d E) _ lv).2 c2 with b | b
    · exact Or.inr (Or.inl ⟨a, b⟩)
    · exact Or.inr (Or.inr b)
theorem tyN_r (E : E0 σ τ f N) (nm : List Int) : tyN σ nm = -1 ∨ (0 ≤ tyN σ nm ∧ tyN σ nm < σ fW_types 0 0) := by
  have r1 := e0_dN E nm 1
  have r11 := dN_11 E nm
  have m1 : mxN σ 1 = σ fW_types 0 0 := rfl
  have k16 := (e0_k E).1.1
  unfold tyN
  by_cases z : dN σ nm 1 = -1
  · rw [if_pos z]
    by_cases y : dN σ nm 11 < 100
    · rw [if_pos y]; exact Or.inl rfl
    · rw [if_neg y]; omega
  · rw [if_neg z]; omega
/-- the model counts the values of a type -/
theorem m_count {τ1 : ga_S} {T : Int} (E : E0 σ τ f N) (h : ∀ G, G ∉ ckM → τ1 G = τ G) {d : Nat} : ∀ i, 0 ≤ i → i ≤ σ fW_values 0 0 → ∀ n, 0 ≤ n → n ≤ i → m_askValues_4 d τ1 T n i = m_askValues_41 d τ1 T (n + (((rg i (σ fW_values 0 0)).filter (fun v => decide (σ fW_valueTypes 0 v = T))).length : Int)) (τ fM_what 0 0) := by
  have wv := e0_v E
  have wv2 := wv.2.1
  refine rg_ind (n := σ fW_values 0 0) (fun i hi h0 h1 n n0 n1 => ?_) (fun i hi ih h0 h1 n n0 n1 => ?_)
  · rw [e_m_askValues_4, h fM_values (by decide), wv.2.2.1, if_neg (by omega), h fM_what (by decide), rg_n hi]
    simp
  · have vt := (wv.2.2.2 i h0 hi).2.2
    rw [e_m_askValues_4, h fM_values (by decide), wv.2.2.1, if_pos hi, ck_ok _ (by omega), h fM_valueType (by decide), vt, rg_s hi, List.filter_cons]
    by_cases z : σ fW_valueTypes 0 i = T
    · rw [if_pos z, e_m_askValues_28, w32_ok (by omega), w32_ok (by omega), ih (by omega) (by omega) (n + 1) (by omega) (by omega), decide_eq_true z, if_pos rfl, List.length_cons]
      congr 1
      push_cast
      omega
    · rw [if_neg z, e_m_askValues_28, w32_ok (by omega), w32_ok (by omega), Int.add_zero, ih (by omega) (by omega) n (by omega) (by omega), decide_eq_false z, if_neg (by decide)]
/-- runs that are listed -/
theorem LST_r (E : E0 σ τ f N) (hm : 2 * τ fM_runs 0 0 ≤ 5001) (hr : ∀ i, 0 ≤ i → i < σ fR_runs 0 0 → rr σ τ f i (σ fR_names 0 0 + i)) (hn : 0 ≤ σ fR_names 0 0) (ho : oC σ) : LST σ τ f N (fun k => σ fR_runFrom 0 k) (fun k => σ fR_runTo 0 k) (fun k => σ fR_names 0 0 + k) (σ fR_runs 0 0) := by
  refine ⟨?_, fun k h0 h1 => ⟨RU_of E.1 (hr k h0 h1) (by omega), (hr k h0 h1).2.2.2.2.1⟩, ho⟩
  by_cases c : 0 < σ fR_runs 0 0
  · have := (hr (σ fR_runs 0 0 - 1) (by omega) (by omega)).2.1
    omega
  · omega
def vaL : List Nat := nwL ++ [fR_isTyped, fR_kind0]
/-- where it is wrong ahead of them, they do not count: component -/
theorem k_vals_no (E : E0 σ τ f N) (hn25 : σ fR_runs 0 0 ≤ 2501) (hB : ∀ k, 0 ≤ k → k < σ fR_runs 0 0 → frB σ N (σ fR_runFrom 0 k) (σ fR_runTo 0 k)) {c : Int} (hc : ∀ k, 0 ≤ k → k < σ fR_runs 0 0 → c ≤ cd σ (σ fR_runFrom 0 k) 0) {d : Nat} (hd : 3 ≤ d) : ∀ k, 0 ≤ k → k ≤ σ fR_runs 0 0 → ∀ ρ, KC σ ρ → FT ρ c → nwO σ N ρ → ρ fR_newNames 0 0 = k → (ρ fR_runs = σ fR_runs ∧ ρ fR_runFrom = σ fR_runFrom ∧ ρ fR_runTo = σ fR_runTo) → (ρ fR_kind0 0 0 = -1 ∨ (0 ≤ ρ fR_kind0 0 0 ∧ ρ fR_kind0 0 0 < 8)) → ∃ ρ', r_checkValues_70 d ρ k = some (0, ρ') ∧ KC σ ρ' ∧ FT ρ' c ∧ fr nwL ρ ρ' := by
  refine rg_ind (n := σ fR_runs 0 0) (fun k hk h0 h1 ρ K F O q Z A => ?_) (fun k hk ih h0 h1 ρ K F O q Z A => ?_)
  · rw [e_r_checkValues_70, Z.1, if_neg (by omega)]
    exact ⟨ρ, rfl, K, F, fr_refl _ _⟩
  · have B := hB k h0 hk
    have t := frB_t B
    have c0 := hc k h0 hk
    have d0 := cd_r E.2.1 t (r := 0) (by omega)
    have d1 := cd_r E.2.1 t (r := 1) (by omega)
    have d01 : cd σ (σ fR_runFrom 0 k) 0 ≤ cd σ (σ fR_runFrom 0 k) 1 := by unfold cd; omega
    have go : ∀ s0, ∃ ρ', r_checkValues_117 d ρ k s0 (σ fR_runTo 0 k) (σ fR_runFrom 0 k) = some (0, ρ') ∧ KC σ ρ' ∧ FT ρ' c ∧ fr nwL ρ ρ' := by
      intro s0
      obtain ⟨ρ1, a1, a2, a3, a4, a5, a6, a7⟩ := k_isNew E K F O (by omega) B s0 8 (d := d) hd
      have em : min c (if nB σ (wsT σ 0 (σ fR_runFrom 0 k) (σ fR_runTo 0 k)) (nwC σ ρ) = true then (if s0 < 8 then 1000000 else cd σ (σ fR_runFrom 0 k) 0) else cd σ (σ fR_runFrom 0 k) 1) = c := by
        have le := FT_le F
        split
        · split <;> omega
        · omega
      rw [em] at a4
      obtain ⟨ρ2, b1, b2, b3, b4⟩ := ih (by omega) (by omega) ρ1 a3 a4 a5 (by omega) ⟨by rw [a2 _ (by decide)]; exact Z.1, by rw [a2 _ (by decide)]; exact Z.2.1, by rw [a2 _ (by decide)]; exact Z.2.2⟩ (by rw [a2 _ (by decide)]; exact A)
      refine ⟨ρ2, ?_, b2, b3, fr_trans a2 b4⟩
      rw [e_r_checkValues_117, a1]
      simp only [Option.bind_some]
      rw [w32_ok (by omega), b1]
    rw [e_r_checkValues_70, Z.1, if_pos hk, ck_ok _ (by omega), ck_ok _ (by omega), Z.2.1, Z.2.2]
    by_cases z : ρ fR_kind0 0 0 = -1
    · rw [if_pos z]; exact go _
    · rw [if_neg z, ck_ok _ (by omega)]; exact go _
/-- the same, model -/
theorem m_vals_no (E : E0 σ τ f N) (hL : LST σ τ f N (fun k => σ fR_runFrom 0 k) (fun k => σ fR_runTo 0 k) (fun k => σ fR_names 0 0 + k) (σ fR_runs 0 0)) (hn : 0 ≤ σ fR_names 0 0) (hR : τ fM_runs 0 0 = σ fR_names 0 0 + σ fR_runs 0 0 ∧ τ fM_runs 0 0 ≤ 2600) {c v : Int} (hc : ∀ k, 0 ≤ k → k < σ fR_runs 0 0 → c ≤ cd σ (σ fR_runFrom 0 k) 0) {d : Nat} (hd : 4 ≤ d) : ∀ k, 0 ≤ k → k ≤ σ fR_runs 0 0 → ∀ ρ n, KM τ ρ → GT ρ c → nwQ σ τ f N ρ → ρ fM_news 0 0 ≤ k → 0 ≤ n → n ≤ 64 + k → ∃ ρ', m_askValues_41 d ρ v n (σ fR_names 0 0 + k) = some (0, ρ') ∧ KM τ ρ' ∧ GT ρ' c ∧ fr mbN ρ ρ' := by
  refine rg_ind (n := σ fR_runs 0 0) (fun k hk h0 h1 ρ n K F O q n0 n1 => ?_) (fun k hk ih h0 h1 ρ n K F O q n0 n1 => ?_)
  · rw [e_m_askValues_41, K fM_runs (by decide), if_neg (by omega)]
    exact ⟨ρ, rfl, K, F, fr_refl _ _⟩
  · obtain ⟨R, lt⟩ := hL.2.1 k h0 hk
    have hn25 := hL.1
    have t := frB_t R.2.2.2
    have c0 := hc k h0 hk
    have d0 := cd_r E.2.1 t (r := 0) (by omega)
    have d01 : cd σ (σ fR_runFrom 0 k) 0 ≤ cd σ (σ fR_runFrom 0 k) 1 := by unfold cd; omega
    have isn := m_isNew E K O (by omega) R (d := d) (by omega)
    obtain ⟨g, eg⟩ : ∃ x, x = nB σ (wsT σ 0 (σ fR_runFrom 0 k) (σ fR_runTo 0 k)) (nwM σ τ f ρ) := ⟨_, rfl⟩
    have isn' : c_m_isNew d ρ (σ fR_names 0 0 + k) = some (b2i g, ρ) := by rw [eg]; exact isn
    have go : ∀ s0, ∃ ρ', m_askValues_68 d ρ v n (σ fR_names 0 0 + k) (b2i g) s0 (σ fR_names 0 0 + k) = some (0, ρ') ∧ KM τ ρ' ∧ GT ρ' c ∧ fr mbN ρ ρ' := by
      intro s0
      obtain ⟨ρ1, a1, a2, a3, a4, a5, a6, a7⟩ := m_mustBeNew E K F O (by omega) R s0 8 (d := d) hd
      have em : min c (if nB σ (wsT σ 0 (σ fR_runFrom 0 k) (σ fR_runTo 0 k)) (nwM σ τ f ρ) = true then (if s0 < 8 then 1000000 else cd σ (σ fR_runFrom 0 k) 0) else cd σ (σ fR_runFrom 0 k) 1) = c := by
        have le := GT_le F
        split
        · split <;> omega
        · omega
      have a4' : GT ρ1 c := by rw [← em]; exact a4
      have next : ∀ n', 0 ≤ n' → n' ≤ 64 + (k + 1) → ∃ ρ', m_askValues_41 d ρ1 v n' (σ fR_names 0 0 + k + 1) = some (0, ρ') ∧ KM τ ρ' ∧ GT ρ' c ∧ fr mbN ρ ρ' := by
        intro n' x1 x2
        obtain ⟨ρ2, b1, b2, b3, b4⟩ := ih (by omega) (by omega) ρ1 n' a3 a4' a5 (by omega) x1 x2
        exact ⟨ρ2, by rw [Int.add_assoc]; exact b1, b2, b3, fr_trans a2 b4⟩
      rw [e_m_askValues_68, a1]
      simp only [Option.bind_some]
      cases hg : g with
      | true =>
        obtain ⟨ρ2, b1, b2⟩ := next (n + 1) (by omega) (by omega)
        rw [if_neg b2i_n, e_m_askValues_84, w32_ok (by omega), w32_ok (by omega)]
        exact ⟨ρ2, b1, b2⟩
      | false =>
        obtain ⟨ρ2, b1, b2⟩ := next (n + 0) (by omega) (by omega)
        rw [if_pos b2i_f, e_m_askValues_84, w32_ok (by omega), w32_ok (by omega)]
        exact ⟨ρ2, b1, b2⟩
    rw [e_m_askValues_41, K fM_runs (by decide), if_pos (by omega), isn']
    simp only [Option.bind_some]
    by_cases z : 1 < v
    · rw [if_pos z]; exact go _
    · rw [if_neg z]; exact go _
end

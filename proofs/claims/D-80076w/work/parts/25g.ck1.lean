/-! checks by sort: where they begin; sorts 19, 18, 8, 17 -/
noncomputable def k0 (σ : ga_S) : ga_S := ga_up (ga_up (ga_up (ga_up (ga_up (ga_up σ fR_newNames 0 0 0) fR_itKind 0 0 (-1)) fR_nounKind 0 0 (-1)) fR_isDescribed 0 0 0) fR_isTyped 0 0 0) fR_isAdjectival 0 0 0
noncomputable def a0 (τ : ga_S) : ga_S := ga_up (ga_up (ga_up (ga_up τ fM_bestFault 0 0 0) fM_news 0 0 0) fM_itKind 0 0 (-1)) fM_nounKind 0 0 (-1)
def k0L : List Nat := [fR_newNames, fR_itKind, fR_nounKind, fR_isDescribed, fR_isTyped, fR_isAdjectival]
def a0L : List Nat := [fM_bestFault, fM_news, fM_itKind, fM_nounKind]
theorem k0_fr (σ : ga_S) : fr k0L σ (k0 σ) := by
  unfold k0
  exact fr_trans (fr_trans (fr_trans (fr_trans (fr_trans (fr_u (by decide)) (fr_u (by decide))) (fr_u (by decide))) (fr_u (by decide))) (fr_u (by decide))) (fr_u (by decide))
theorem a0_fr (τ : ga_S) : fr a0L τ (a0 τ) := by
  unfold a0
  exact fr_trans (fr_trans (fr_trans (fr_u (by decide)) (fr_u (by decide))) (fr_u (by decide))) (fr_u (by decide))
theorem k0_ok {σ : ga_S} (hf : σ fR_fault 0 0 = 0) (N : Nat) : KC σ (k0 σ) ∧ FT (k0 σ) 1000000 ∧ nwO σ N (k0 σ) ∧ (k0 σ) fR_newNames 0 0 = 0 ∧ nwC σ (k0 σ) = [] ∧ (k0 σ) fR_itKind 0 0 = -1 ∧ (k0 σ) fR_nounKind 0 0 = -1 ∧ (k0 σ) fR_isDescribed 0 0 = 0 ∧ (k0 σ) fR_isTyped 0 0 = 0 ∧ (k0 σ) fR_isAdjectival 0 0 = 0 := by
  have n0 : (k0 σ) fR_newNames 0 0 = 0 := by unfold k0; rw [up_F (by decide), up_F (by decide), up_F (by decide), up_F (by decide), up_F (by decide), up_eq]
  refine ⟨KC_f (KC_r σ) (k0_fr σ) (by decide), Or.inl ⟨rfl, ?_⟩, ?_, n0, ?_, ?_, ?_, ?_, ?_, ?_⟩
  · rw [k0_fr σ _ (by decide)]; exact hf
  · unfold nwO; rw [n0]; exact ⟨Int.le_refl _, fun k h1 h2 => by omega⟩
  · unfold nwC; rw [n0, rg_n (Int.le_refl _)]; rfl
  · unfold k0; rw [up_F (by decide), up_F (by decide), up_F (by decide), up_F (by decide), up_eq]
  · unfold k0; rw [up_F (by decide), up_F (by decide), up_F (by decide), up_eq]
  · unfold k0; rw [up_F (by decide), up_F (by decide), up_eq]
  · unfold k0; rw [up_F (by decide), up_eq]
  · unfold k0; rw [up_eq]
theorem a0_ok (σ τ : ga_S) (f : Int) (N : Nat) : KM τ (a0 τ) ∧ GT (a0 τ) 1000000 ∧ nwQ σ τ f N (a0 τ) ∧ (a0 τ) fM_news 0 0 = 0 ∧ nwM σ τ f (a0 τ) = [] ∧ (a0 τ) fM_itKind 0 0 = -1 ∧ (a0 τ) fM_nounKind 0 0 = -1 := by
  have n0 : (a0 τ) fM_news 0 0 = 0 := by unfold a0; rw [up_F (by decide), up_F (by decide), up_eq]
  refine ⟨fr_sub (a0_fr τ) (by decide), Or.inl ⟨rfl, ?_⟩, ?_, n0, ?_, ?_, ?_⟩
  · unfold a0; rw [up_F (by decide), up_F (by decide), up_F (by decide), up_eq]
  · unfold nwQ; rw [n0]; exact ⟨Int.le_refl _, fun k h1 h2 => by omega⟩
  · unfold nwM; rw [n0, rg_n (Int.le_refl _)]; rfl
  · unfold a0; rw [up_F (by decide), up_eq]
  · unfold a0; rw [up_eq]
/-- what a check without tests may change -/
def ksL : List Nat := [fD_size, fD_spelled, fR_fault, fR_where, fR_rank, fR_newNames, fR_newFrom, fR_newTo, fR_itKind, fR_nounKind, fR_isDescribed, fR_isTyped, fR_isAdjectival, fR_kind0, fR_object0, fR_foundAdjective, fR_foundValue, fR_foundProperty, fR_describedKind, fR_described, fR_describedWhich, fR_describedValue]
def ksM : List Nat := [fM_bestFault, fM_bestPlace, fM_bestRank, fM_news, fM_newRun, fM_itKind, fM_nounKind, fM_readings, fM_readKind, fM_readCount, fM_readAdjective, fM_chunk, fM_foundAdjective, fM_matches]
/-- what a check leaves: the same least note, and A where there is none -/
def ckX (σ τ : ga_S) (x y : Option ga_R) (A : ga_S → ga_S → Prop) : Prop := ∃ σ' τ' c, x = some (0, σ') ∧ y = some (0, τ') ∧ KC σ σ' ∧ KM τ τ' ∧ FT σ' c ∧ GT τ' c ∧ fr ksL σ σ' ∧ fr ksM τ τ' ∧ (c = 1000000 → A σ' τ')
def nR (σ : ga_S) (i : Int) : List Int := nmT σ (σ fR_runFrom 0 i) (σ fR_runTo 0 i)
def nN (σ : ga_S) (k : Int) : List Int := nmT σ (σ fR_nameFrom 0 k) (σ fR_nameTo 0 k)
def wN (σ : ga_S) (k : Int) : List (List Int) := wsT σ 0 (σ fR_nameFrom 0 k) (σ fR_nameTo 0 k)
def wC (σ : ga_S) (i : Int) : List (List Int) := wsT σ 0 (σ fR_runFrom 0 i) (σ fR_runTo 0 i)
theorem sameN_0 (σ : ga_S) : sameN σ [] [] := fun _ => rfl
theorem b2i_if {p : Prop} [Decidable p] {α : Type} (x y : α) : (if p then x else y) = if b2i (decide p) = 0 then y else x := by
  by_cases h : p
  · rw [if_pos h, decide_eq_true h, if_neg b2i_n]
  · rw [if_neg h, decide_eq_false h, if_pos b2i_f]
theorem frB_t {σ : ga_S} {N : Nat} {a b : Int} (h : frB σ N a b) : 0 ≤ a ∧ a ≤ N := by
  obtain ⟨h1, h2, h3, _⟩ := h
  omega
theorem if_app {α : Type} {p : Prop} [Decidable p] (g : Int → α) (x y : Int) : (if p then g x else g y) = g (if p then x else y) := by
  by_cases q : p
  · rw [if_pos q, if_pos q]
  · rw [if_neg q, if_neg q]
theorem m_needI {σ0 τ0 τ : ga_S} {f : Int} {N : Nat} (E : E0 σ0 τ0 f N) (K : KM τ0 τ) {c : Int} (hF : GT τ c) (p : Prop) [Decidable p] {t t' r why : Int} (ht : 0 ≤ t ∧ t ≤ N) (he : t' = f + t) (hr : 0 ≤ r ∧ r ≤ 4) (hw : why = fOf r) {d : Nat} (hd : 3 ≤ d) : ∃ τ', c_m_need d τ (if p then 0 else 1) why t' = some (0, τ') ∧ fr ntM τ τ' ∧ KM τ0 τ' ∧ GT τ' (min c (if p then cd σ0 t r else 1000000)) := by
  obtain ⟨τ', e1, e2, e3, e4⟩ := m_need E K hF (g := if p then 0 else 1) ht he hr hw hd
  refine ⟨τ', e1, e2, e3, ?_⟩
  by_cases q : p
  · rw [if_pos q]
    rw [if_pos q, if_pos rfl] at e4
    exact e4
  · rw [if_neg q]
    rw [if_neg q, if_neg (by decide)] at e4
    exact e4
/-- where there is no note, none was made -/
theorem no_min {c x y : Int} (h : min c x = y) (hy : y = 1000000) (hc : c ≤ 1000000) : c = 1000000 ∧ (1000000 ≤ x) := by omega
theorem no_if {p : Prop} [Decidable p] {x : Int} (h : 1000000 ≤ if p then x else 1000000) (hx : x < 1000000) : ¬ p := by
  intro q
  rw [if_pos q] at h
  omega
theorem no_new {b : Bool} {p : Prop} [Decidable p] {x y : Int} (h : 1000000 ≤ if b = true then (if p then 1000000 else x) else y) (hx : x < 1000000) (hy : y < 1000000) : b = true ∧ p := by
  cases b with
  | false => rw [if_neg (by decide)] at h; omega
  | true =>
    rw [if_pos rfl] at h
    refine ⟨rfl, ?_⟩
    by_cases q : p
    · exact q
    · rw [if_neg q] at h; omega
theorem ck_19 {σ τ : ga_S} {f : Int} {N : Nat} (E : E0 σ τ f N) (hf : σ fR_fault 0 0 = 0) (hm : τ fM_runs 0 0 ≤ 2600) (hs : σ fR_sort 0 0 = 19) (ht : τ fM_sort 0 0 = 19) (n0 : nn σ τ f 0 0) (r0 : rr σ τ f 0 1) (r1 : rr σ τ f 1 2) {d : Nat} (hd : 7 ≤ d) (first : Int) : ckX σ τ (c_r_check d σ) (c_m_asked d τ first) (fun σ' _ => σ' fR_kind0 0 0 = kdN σ (nR σ 0) ∧ kdN σ (nR σ 0) ≠ -1 ∧ σ' fR_object0 0 0 = kdN σ (nR σ 1) ∧ kdN σ (nR σ 1) ≠ -1 ∧ nB σ (wN σ 0) [] = true ∧ σ fW_relations 0 0 < 6) := by
  obtain ⟨d, rfl⟩ : ∃ e, d = e + 1 := ⟨d - 1, by omega⟩
  obtain ⟨K1, F1, O1, q1, S1, _⟩ := k0_ok hf N
  obtain ⟨M1, G1, Q1, p1, T1, _⟩ := a0_ok σ τ f N
  have R0 := RU_of E.1 n0 hm
  have R1 := RU_of E.1 r0 hm
  have R2 := RU_of E.1 r1 hm
  have wr := e0_r E
  obtain ⟨c0, ec0⟩ : ∃ c, c = (if nB σ (wN σ 0) [] = true then (if σ fW_relations 0 0 < 6 then 1000000 else cd σ (σ fR_nameFrom 0 0) 0) else cd σ (σ fR_nameFrom 0 0) 1) := ⟨_, rfl⟩
  -- the component
  obtain ⟨σ2, a1, a2, a3, a4, a5, a6, a7⟩ := k_isNew E K1 F1 O1 (by omega) (rnR_B E.1 n0) (σ fW_relations 0 0) 6 (d := d) (by omega)
  rw [S1] at a4
  have x2 : ∀ i, σ2 fR_runFrom 0 i = σ fR_runFrom 0 i ∧ σ2 fR_runTo 0 i = σ fR_runTo 0 i := fun i => ⟨by rw [a2 _ (by decide), k0_fr σ _ (by decide)], by rw [a2 _ (by decide), k0_fr σ _ (by decide)]⟩
  obtain ⟨σ3, b1, b2, b3, b4⟩ := k_needKind E a3 a4 (rnR_B E.1 r0) (d := d) (by omega)
  obtain ⟨σ4, e4⟩ : ∃ x, x = ga_up σ3 fR_kind0 0 0 (kdN σ (nR σ 0)) := ⟨_, rfl⟩
  have f4 : fr [fR_kind0] σ3 σ4 := by rw [e4]; exact fr_u (by decide)
  obtain ⟨σ5, c1, c2, c3, c4⟩ := k_needKind E (KC_f b3 f4 (by decide)) (FT_f b4 f4 (by decide)) (rnR_B E.1 r1) (d := d) (by omega)
  obtain ⟨σ6, e6⟩ : ∃ x, x = ga_up σ5 fR_object0 0 0 (kdN σ (nR σ 1)) := ⟨_, rfl⟩
  have f6 : fr [fR_object0] σ5 σ6 := by rw [e6]; exact fr_u (by decide)
  have hC : c_r_check (d + 1) σ = some (0, σ6) := by
    rw [e_r_check, hs]
    iterate 19 rw [if_neg (by decide)]
    rw [if_pos rfl]
    show ((c_r_isNew d (k0 σ) _ _ _ _).bind _) = _
    rw [a1]
    simp only [Option.bind_some]
    rw [(x2 0).1, (x2 0).2, b1]
    simp only [Option.bind_some]
    rw [show ga_up σ3 fR_kind0 0 0 (kdN σ (nmT σ (σ fR_runFrom 0 0) (σ fR_runTo 0 0))) = σ4 from e4.symm, b2 fR_runFrom (by decide), b2 fR_runTo (by decide), (x2 1).1, (x2 1).2, c1]
    simp only [Option.bind_some]
    rw [e6]; rfl
  -- the model
  obtain ⟨τ2, m1, m2, m3, m4, m5, m6, m7⟩ := m_mustBeNew E M1 G1 Q1 (by omega) R0 (τ fM_relations 0 0) 6 (d := d) (by omega)
  rw [T1, wr.2.2.1] at m4
  obtain ⟨τ3, n1, n2, n3, n4⟩ := m_needI E m3 m4 (kdN σ (nR σ 0) = -1) (frB_t R1.2.2.2) R1.2.1 (r := 2) (why := 4) (by omega) (by decide) (d := d) (by omega)
  obtain ⟨τ4, o1, o2, o3, o4⟩ := m_needI E n3 n4 (kdN σ (nR σ 1) = -1) (frB_t R2.2.2.2) R2.2.1 (r := 2) (why := 4) (by omega) (by decide) (d := d) (by omega)
  have hM : c_m_asked (d + 1) τ first = some (0, τ4) := by
    rw [e_m_asked, ht]
    iterate 19 rw [if_neg (by decide)]
    rw [if_pos rfl]
    show ((c_m_mustBeNew d (a0 τ) _ _ _).bind _) = _
    rw [m1]
    simp only [Option.bind_some]
    rw [m_kindOrPlural E m3 R1 (by omega)]
    simp only [Option.bind_some]
    rw [if_app (m_asked_480 d τ2), e_m_asked_480, m3 _ (by decide)]
    show ((c_m_need d τ2 (if kdN σ (nR σ 0) = -1 then 0 else 1) 4 (τ fM_runFrom 0 1)).bind _) = _
    rw [n1]
    simp only [Option.bind_some]
    rw [m_kindOrPlural E n3 R2 (by omega)]
    simp only [Option.bind_some]
    rw [if_app (m_asked_505 d τ3), e_m_asked_505, n3 _ (by decide)]
    show ((c_m_need d τ3 (if kdN σ (nR σ 1) = -1 then 0 else 1) 4 (τ fM_runFrom 0 2)).bind _) = _
    rw [o1]
    rfl
  refine ⟨σ6, τ4, _, hC, hM, KC_f c3 f6 (by decide), o3, FT_f c4 f6 (by decide), o4, (fr_trans (fr_sub (k0_fr σ) (by decide)) (fr_trans (fr_sub a2 (by decide)) (fr_trans (fr_sub b2 (by decide)) (fr_trans (fr_sub f4 (by decide)) (fr_trans (fr_sub c2 (by decide)) (fr_sub f6 (by decide))))))), (fr_trans (fr_sub (a0_fr τ) (by decide)) (fr_trans (fr_sub m2 (by decide)) (fr_trans (fr_sub n2 (by decide)) (fr_sub o2 (by decide))))), fun z => ?_⟩
  have z1 := no_min rfl z (GT_le n4)
  have z2 := no_min rfl z1.1 (GT_le m4)
  have z3 := no_min rfl z2.1 (Int.le_refl _)
  have t0 := frB_t R0.2.2.2
  have y1 := no_new z3.2 (cd_r E.2.1 t0 (by omega)).2 (cd_r E.2.1 t0 (by omega)).2
  refine ⟨?_, no_if z2.2 (cd_r E.2.1 (frB_t R1.2.2.2) (by omega)).2, ?_, no_if z1.2 (cd_r E.2.1 (frB_t R2.2.2.2) (by omega)).2, y1.1, y1.2⟩
  · rw [f6 _ (by decide), c2 _ (by decide), e4, up_eq]
  · rw [e6, up_eq]

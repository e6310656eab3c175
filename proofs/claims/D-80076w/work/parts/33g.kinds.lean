/-! new kinds and types: the names -/
theorem m_ak56 {d : Nat} {K : Int} (hK : 0 ≤ K ∧ K < 16) : ∀ k, 0 ≤ k → ∀ υ : ga_S, υ fM_kinds 0 0 = K → ∃ υ', m_addKind_56 d υ k = some (K, υ') ∧ fr [fM_kindIs, fM_kinds] υ υ' ∧ υ' fM_kinds 0 0 = K + 1 ∧ ∀ i, υ' fM_kindIs 0 i = if 24 * K + k ≤ i ∧ i < 24 * K + 24 then 0 else υ fM_kindIs 0 i := by
  refine rg_ind (n := 24) ?_ ?_
  · intro k h h0 υ hk
    refine ⟨ga_up υ fM_kinds 0 0 (K + 1), ?_, fr_u (by decide), up_eq .., fun i => ?_⟩
    · rw [e_m_addKind_56, if_neg (by omega), hk, w32_ok (x := K + 1) (by omega), w32_ok (x := K + 1 - 1) (by omega), show K + 1 - 1 = K by omega]
    · rw [if_neg (by omega), up_F (by decide)]
  · intro k h ih h0 υ hk
    obtain ⟨υ', a1, a2, a3, a4⟩ := ih (by omega) (ga_up υ fM_kindIs 0 (24 * K + k) 0) (by rw [up_F (by decide)]; exact hk)
    refine ⟨υ', ?_, fr_trans (fr_u (by decide)) a2, a3, fun i => ?_⟩
    · rw [e_m_addKind_56, if_pos h, hk, w32_ok (x := 24 * K) (by omega), w32_ok (x := 24 * K + k) (by omega), ck_ok _ (by omega), w32_ok (x := k + 1) (by omega), a1]
    · rw [a4, up_at]
      by_cases c : i = 24 * K + k
      · rw [if_neg (by omega), if_pos c, if_pos (by omega)]
      · by_cases c2 : 24 * K + (k + 1) ≤ i ∧ i < 24 * K + 24
        · rw [if_pos c2, if_pos (by omega)]
        · rw [if_neg c2, if_neg c, if_neg (by omega)]
theorem m_ak12 {d : Nat} {K : Int} (hK : 0 ≤ K ∧ K < 16) : ∀ k, 0 ≤ k → ∀ υ : ga_S, υ fM_kinds 0 0 = K → ∃ υ', m_addKind_12 d υ k = m_addKind_56 d υ' 0 ∧ fr [fM_kindHas, fM_kindTold] υ υ' ∧ (∀ i, υ' fM_kindHas 0 i = if 12 * K + k ≤ i ∧ i < 12 * K + 12 then 0 else υ fM_kindHas 0 i) ∧ ∀ i, υ' fM_kindTold 0 i = if 12 * K + k ≤ i ∧ i < 12 * K + 12 then 0 else υ fM_kindTold 0 i := by
  refine rg_ind (n := 12) ?_ ?_
  · intro k h h0 υ hk
    refine ⟨υ, ?_, fr_refl _ _, fun i => ?_, fun i => ?_⟩
    · rw [e_m_addKind_12, if_neg (by omega)]
    · rw [if_neg (by omega)]
    · rw [if_neg (by omega)]
  · intro k h ih h0 υ hk
    obtain ⟨υ', a1, a2, a3, a4⟩ := ih (by omega) (ga_up (ga_up υ fM_kindHas 0 (12 * K + k) 0) fM_kindTold 0 (12 * K + k) 0) (by rw [up_F (by decide), up_F (by decide)]; exact hk)
    refine ⟨υ', ?_, fr_trans (fr_u (by decide)) (fr_trans (fr_u (by decide)) a2), fun i => ?_, fun i => ?_⟩
    · rw [e_m_addKind_12, if_pos h, hk, w32_ok (x := 12 * K) (by omega), w32_ok (x := 12 * K + k) (by omega), ck_ok _ (by omega), ck_ok _ (by omega), w32_ok (x := k + 1) (by omega), a1]
    · rw [a3, up_F (by decide), up_at]
      by_cases c : i = 12 * K + k
      · rw [if_neg (by omega), if_pos c, if_pos (by omega)]
      · by_cases c2 : 12 * K + (k + 1) ≤ i ∧ i < 12 * K + 12
        · rw [if_pos c2, if_pos (by omega)]
        · rw [if_neg c2, if_neg c, if_neg (by omega)]
    · rw [a4, up_at, up_F (by decide)]
      by_cases c : i = 12 * K + k
      · rw [if_neg (by omega), if_pos c, if_pos (by omega)]
      · by_cases c2 : 12 * K + (k + 1) ≤ i ∧ i < 12 * K + 12
        · rw [if_pos c2, if_pos (by omega)]
        · rw [if_neg c2, if_neg c, if_neg (by omega)]
def akM : List Nat := [fM_above, fM_kindHas, fM_kindTold, fM_kindIs, fM_kinds]
theorem m_addKind {υ : ga_S} {K p : Int} (hk : υ fM_kinds 0 0 = K) (hK : 0 ≤ K ∧ K < 16) {d : Nat} (hd : 1 ≤ d) : ∃ υ', c_m_addKind d υ p = some (K, υ') ∧ fr akM υ υ' ∧ υ' fM_kinds 0 0 = K + 1 ∧ (∀ i, υ' fM_above 0 i = if i = K then p else υ fM_above 0 i) ∧ (∀ i, υ' fM_kindHas 0 i = if 12 * K ≤ i ∧ i < 12 * K + 12 then 0 else υ fM_kindHas 0 i) ∧ (∀ i, υ' fM_kindTold 0 i = if 12 * K ≤ i ∧ i < 12 * K + 12 then 0 else υ fM_kindTold 0 i) ∧ (∀ i, υ' fM_kindIs 0 i = if 24 * K ≤ i ∧ i < 24 * K + 24 then 0 else υ fM_kindIs 0 i) := by
  obtain ⟨d, rfl⟩ : ∃ e, d = e + 1 := ⟨d - 1, by omega⟩
  obtain ⟨υ1, e1⟩ : ∃ x, x = ga_up υ fM_above 0 K p := ⟨_, rfl⟩
  have f1 : fr [fM_above] υ υ1 := by rw [e1]; exact fr_u (by decide)
  obtain ⟨υ2, a1, a2, a3, a4⟩ := m_ak12 (d := d) hK 0 (Int.le_refl _) υ1 (by rw [f1 _ (by decide)]; exact hk)
  obtain ⟨υ3, b1, b2, b3, b4⟩ := m_ak56 (d := d) hK 0 (Int.le_refl _) υ2 (by rw [a2 _ (by decide), f1 _ (by decide)]; exact hk)
  refine ⟨υ3, ?_, fr_trans (fr_sub f1 (by decide)) (fr_trans (fr_sub a2 (by decide)) (fr_sub b2 (by decide))), b3, fun i => ?_, fun i => ?_, fun i => ?_, fun i => ?_⟩
  · rw [e_m_addKind, hk, ck_ok _ hK, ← e1, a1, b1]
  · rw [b2 _ (by decide), a2 _ (by decide), e1, up_at]
  · rw [b2 _ (by decide), a3, f1 _ (by decide), show 12 * K + 0 = 12 * K by omega]
  · rw [b2 _ (by decide), a4, f1 _ (by decide), show 12 * K + 0 = 12 * K by omega]
  · rw [b4, a2 _ (by decide), f1 _ (by decide), show 24 * K + 0 = 24 * K by omega]
section
variable {σ τ : ga_S} {f : Int} {N : Nat}
/-- k names are told, K kinds and T types had been there -/
def NC (σ τ : ga_S) (g K T : Int) (ρ υ : ga_S) (k : Int) : Prop := tkS σ ρ ∧ tkT τ υ ∧ DW ρ υ g ∧ (∀ nm, fnd σ nm 0 = -1 → (∀ j, 0 ≤ j → j < k → nm ≠ nN σ j) → fnd ρ nm 0 = -1) ∧ (∀ j, 0 ≤ j → j < k → fnd ρ (nN σ j) 0 ≠ -1 ∧ ρ fD_sorts 0 (fnd ρ (nN σ j) 0) ≠ 11) ∧ (∀ q, live ρ q → ρ fD_sorts 0 q = 11 → ρ fD_numbers 0 q < K ∨ (100 ≤ ρ fD_numbers 0 q ∧ ρ fD_numbers 0 q < 100 + T))
theorem nc_tell (ET : ENV σ τ f N ∧ TOK σ τ f N) {g K T k s n : Int} {ρ υ ρ1 υ1 : ga_S} (H : NC σ τ g K T ρ υ k) (h0 : 0 ≤ k) {L M : List Nat} (f1 : fr L ρ ρ1) (hL : tkB.all (fun F => !(L.contains F)) = true) (GG : GC σ ρ1) (f2 : fr M υ υ1) (hM : tkM.all (fun F => !(M.contains F)) = true) (D1 : DW ρ1 υ1 g) (hs : s = 0 ∨ s = 1) (hn : 0 ≤ n ∧ n < 200) (hm : n < mxN ρ1 s) (nn : ∀ j, live ρ j → ρ fD_sorts 0 j = s → ρ fD_numbers 0 j ≠ n) (R : RU σ τ f N k (σ fR_nameFrom 0 k) (σ fR_nameTo 0 k)) (lt : σ fR_nameFrom 0 k < σ fR_nameTo 0 k) (w : (wN σ k).length ≤ 3 ∧ fnd σ (nN σ k) 0 = -1 ∧ ∀ j, 0 ≤ j → j < k → nN σ k ≠ nN σ j) {d : Nat} (hd : 3 ≤ d) : ∃ ρ2 υ2, c_r_tell d ρ1 (σ fR_nameFrom 0 k) (σ fR_nameTo 0 k) s n = some (0, ρ2) ∧ c_m_tellRun d υ1 (sM s n) n k = some (0, υ2) ∧ fr (dicL ++ spL) ρ1 ρ2 ∧ fr lexL υ1 υ2 ∧ NC σ τ g K T ρ2 υ2 (k + 1) := by
  obtain ⟨H1, H2, H3, H4, H5, H6⟩ := H
  have dicE : ∀ F, F ∈ dicL → ρ1 F = ρ F := fun F hF => fr_no f1 hL (List.mem_append_right _ hF)
  have dic1 := dic_c dicE
  have S1 : tkS σ ρ1 := tkS_g H1 f1 hL GG
  have len0 : σ fR_nameTo 0 k - σ fR_nameFrom 0 k ≤ 3 := by have := wsT_len (σ := σ) R.2.2.2.2.1; have := w.1; unfold wN at this; omega
  have nw : fnd ρ1 (nmT σ (σ fR_nameFrom 0 k) (σ fR_nameTo 0 k)) 0 = -1 := by
    rw [dic1.1]; exact H4 _ w.2.1 w.2.2
  have lv1 : ∀ j, live ρ1 j ↔ live ρ j := by
    intro j; unfold live; rw [dicE fD_count (by decide), dicE fD_sorts (by decide)]
  obtain ⟨ρ2, υ2, d1, d2, d3, d4, d5, d6, d7⟩ := tell_J ET S1 (tkT_f H2 f2 hM) D1 (s := s) (n := n) R lt len0 nw (by omega) hn hm (by omega) (fun j l e => by
      rw [dicE fD_sorts (by decide)] at e
      rw [dicE fD_numbers (by decide)]
      exact nn j ((lv1 j).mp l) e) (d := d) (d' := d) hd hd
  have im : iM s n = n := by unfold iM; rw [if_neg (by omega)]
  rw [im] at d2
  have s1 : s ≠ -1 := by omega
  have F := fnd_tell D1.1 d3 s1 nw
  have nk : fnd ρ2 (nN σ k) 0 = ρ1 fD_count 0 0 := by
    have nw' : fnd ρ1 (nN σ k) 0 = -1 := nw
    rw [F, if_pos nw']
    exact if_pos rfl
  refine ⟨ρ2, υ2, d1, d2, d3.1, d4.1, d6, d7, d5, fun nm z1 z2 => ?_, fun j j0 j1 => ?_, fun q l e => ?_⟩
  · rw [F, dic1.1, if_pos (H4 nm z1 (fun j j0 j1 => z2 j j0 (by omega))), if_neg]
    exact z2 k h0 (by omega)
  · by_cases c : j = k
    · rw [c, nk, d3.2.2.2.2.2.2.1]
      have := D1.1.1.1
      exact ⟨by omega, by omega⟩
    · have o := H5 j j0 (by omega)
      have ro := (fnd_r (σ := ρ) (nm := nN σ j) (Int.le_refl 0)).resolve_left o.1
      have e : fnd ρ2 (nN σ j) 0 = fnd ρ (nN σ j) 0 := by
        rw [F, dic1.1, if_neg o.1]
      rw [e, (d3.2.2.2.2.1 _ ro.1 (by rw [dicE fD_count (by decide)]; exact ro.2.1)).2.1, dicE fD_sorts (by decide)]
      exact o
  · rcases (DT_live D1.1.1 d3 s1 q).mp l with l' | l'
    · have x := d3.2.2.2.2.1 q l'.1 l'.2.1
      rw [x.2.1, dicE fD_sorts (by decide)] at e
      rw [x.2.2.1, dicE fD_numbers (by decide)]
      exact H6 q ((lv1 q).mp l') e
    · rw [l', d3.2.2.2.2.2.2.1] at e
      omega
def a10C : List Nat := [fW_kinds, fW_parents, fW_types, fW_typeValues] ++ dicL ++ spL
def a10M : List Nat := [fM_kinds, fM_above, fM_kindHas, fM_kindTold, fM_kindIs, fM_types] ++ lexL
/-- ahead of name k: new kinds -/
def KA (σ τ : ga_S) (g K T p : Int) (ρ υ : ga_S) (k : Int) : Prop := NC σ τ g K T ρ υ k ∧ fr ([fW_kinds, fW_parents] ++ dicL ++ spL) σ ρ ∧ fr (akM ++ lexL) τ υ ∧ ρ fW_kinds 0 0 = K + k ∧ υ fM_kinds 0 0 = K + k ∧ (∀ i, ρ fW_parents 0 i = if K ≤ i ∧ i < K + k then p else σ fW_parents 0 i) ∧ (∀ i, υ fM_above 0 i = if K ≤ i ∧ i < K + k then p else τ fM_above 0 i) ∧ (∀ i, υ fM_kindHas 0 i = if 12 * K ≤ i ∧ i < 12 * (K + k) then 0 else τ fM_kindHas 0 i) ∧ (∀ i, υ fM_kindTold 0 i = if 12 * K ≤ i ∧ i < 12 * (K + k) then 0 else τ fM_kindTold 0 i) ∧ (∀ i, υ fM_kindIs 0 i = if 24 * K ≤ i ∧ i < 24 * (K + k) then 0 else τ fM_kindIs 0 i)
theorem ite_more {a b c : Int} {x y : Int} {i : Int} (hb : a ≤ b) (hc : b ≤ c) : (if b ≤ i ∧ i < c then x else if a ≤ i ∧ i < b then x else y) = if a ≤ i ∧ i < c then x else y := by
  by_cases h : a ≤ i ∧ i < c
  · rw [if_pos h]
    by_cases h2 : b ≤ i ∧ i < c
    · rw [if_pos h2]
    · rw [if_neg h2, if_pos (by omega)]
  · rw [if_neg h, if_neg (by omega), if_neg (by omega)]
theorem ka_step (ET : ENV σ τ f N ∧ TOK σ τ f N) {g K T p k : Int} (eK : K = σ fW_kinds 0 0) {ρ υ : ga_S} (H : KA σ τ g K T p ρ υ k) (h0 : 0 ≤ k) (hK : 0 ≤ K) (hk : K + k < 16) (R : RU σ τ f N k (σ fR_nameFrom 0 k) (σ fR_nameTo 0 k)) (lt : σ fR_nameFrom 0 k < σ fR_nameTo 0 k) (w : (wN σ k).length ≤ 3 ∧ fnd σ (nN σ k) 0 = -1 ∧ ∀ j, 0 ≤ j → j < k → nN σ k ≠ nN σ j) {d : Nat} (hd : 3 ≤ d) : ∃ ρ1 υ1 ρ2 υ2, c_w_newKind d ρ p = some (K + k, ρ1) ∧ c_m_addKind d υ p = some (K + k, υ1) ∧ c_r_tell d ρ1 (σ fR_nameFrom 0 k) (σ fR_nameTo 0 k) 0 (K + k) = some (0, ρ2) ∧ c_m_tellRun d υ1 0 (K + k) k = some (0, υ2) ∧ fr [fW_kinds, fW_parents] ρ ρ1 ∧ fr akM υ υ1 ∧ KA σ τ g K T p ρ2 υ2 (k + 1) := by
  obtain ⟨H1, H2, H3, H4, H5, H6, H7, H8, H9, H10⟩ := H
  obtain ⟨υ1, u1, u2, u3, u4, u5, u6, u7⟩ := m_addKind (υ := υ) (p := p) H5 (by omega) (d := d) (by omega)
  obtain ⟨d, rfl⟩ : ∃ e, d = e + 1 := ⟨d - 1, by omega⟩
  have run1 := e_w_newKind d ρ p
  rw [H4, ck_ok _ (by omega), w32_ok (x := K + k + 1) (by omega)] at run1
  obtain ⟨ρ1, e1⟩ : ∃ x, x = ga_up (ga_up ρ fW_parents 0 (K + k) p) fW_kinds 0 0 (K + k + 1) := ⟨_, rfl⟩
  rw [← e1] at run1
  have f1 : fr [fW_kinds, fW_parents] ρ ρ1 := by rw [e1]; exact fr_trans (fr_u (by decide)) (fr_u (by decide))
  have n1 : ρ1 fW_kinds 0 0 = K + k + 1 := by rw [e1, up_eq]
  have H1' := H1
  obtain ⟨N1, N2, N3, N4, N5, N6⟩ := H1'
  have B1 : cB ρ1 := by
    have Bc := N3.2.2.2.2.1
    unfold cB at Bc ⊢
    rw [f1 fW_actions (by decide), f1 fW_objects (by decide), n1, f1 fW_types (by decide), f1 fW_values (by decide), f1 fW_properties (by decide), f1 fW_adjectives (by decide), f1 fW_verbs (by decide), f1 fW_relations (by decide)]
    exact ⟨by omega, Bc.2⟩
  have D1 : DW ρ1 υ1 g := DW_cm N3 (fr_mem f1 (by decide)) (fun F hF => by
      by_cases z : F = fW_kinds
      · rw [z, n1, H4]; omega
      · rw [f1 F (by revert z; revert F; decide)]; exact Int.le_refl _) (fr_mem u2 (by decide)) B1
  have mx : mxN ρ1 0 = K + k + 1 := n1
  have GG : GC σ ρ1 := by
    have f01 : fr ([fW_kinds, fW_parents] ++ dicL ++ spL) σ ρ1 := fr_trans H2 (fr_sub f1 (by decide))
    refine GC_g f01 (by decide) (cnt_1 f01 fW_kinds (by decide) (by rw [n1, ← eK]; omega)) (Or.inr (fun a a0 a1 => ?_)) (by decide) (Or.inl (by decide)) (Or.inl (by decide)) (Or.inl (by decide)) (Or.inl (by decide))
    rw [← eK] at a1
    rw [e1, up_F (by decide), up_i (by omega), H6, if_neg (by omega)]
  obtain ⟨ρ2, υ2, t1, t2, t3, t4, t5⟩ := nc_tell ET H1 h0 f1 (by decide) GG u2 (by decide) D1 (s := 0) (n := K + k) (Or.inl rfl) (by omega) (by omega) (fun j l e => by
      have x := (N3.2.1 j l).1
      rw [e] at x
      have x' : ρ fD_numbers 0 j < ρ fW_kinds 0 0 := x
      omega) R lt w (d := d + 1) (by omega)
  refine ⟨ρ1, υ1, ρ2, υ2, run1, u1, t1, t2, f1, u2, t5, fr_trans H2 (fr_trans (fr_sub f1 (by decide)) (fr_sub t3 (by decide))), fr_trans H3 (fr_trans (fr_sub u2 (by decide)) (fr_sub t4 (by decide))), ?_, ?_, fun i => ?_, fun i => ?_, fun i => ?_, fun i => ?_, fun i => ?_⟩
  · rw [t3 _ (by decide), n1]; omega
  · rw [t4 _ (by decide), u3]; omega
  · rw [t3 _ (by decide), e1, up_F (by decide), up_at, H6]
    by_cases c : i = K + k
    · rw [if_pos c, if_pos (by omega)]
    · rw [if_neg c]
      by_cases c2 : K ≤ i ∧ i < K + k
      · rw [if_pos c2, if_pos (by omega)]
      · rw [if_neg c2, if_neg (by omega)]
  · rw [t4 _ (by decide), u4, H7]
    by_cases c : i = K + k
    · rw [if_pos c, if_pos (by omega)]
    · rw [if_neg c]
      by_cases c2 : K ≤ i ∧ i < K + k
      · rw [if_pos c2, if_pos (by omega)]
      · rw [if_neg c2, if_neg (by omega)]
  · rw [t4 _ (by decide), u5, H8, show 12 * (K + k) + 12 = 12 * (K + (k + 1)) by omega]
    exact ite_more (by omega) (by omega)
  · rw [t4 _ (by decide), u6, H9, show 12 * (K + k) + 12 = 12 * (K + (k + 1)) by omega]
    exact ite_more (by omega) (by omega)
  · rw [t4 _ (by decide), u7, H10, show 24 * (K + k) + 24 = 24 * (K + (k + 1)) by omega]
    exact ite_more (by omega) (by omega)
/-- ahead of name k: new types -/
def TA (σ τ : ga_S) (g K T : Int) (ρ υ : ga_S) (k : Int) : Prop := NC σ τ g K T ρ υ k ∧ fr ([fW_types, fW_typeValues] ++ dicL ++ spL) σ ρ ∧ fr ([fM_types] ++ lexL) τ υ ∧ ρ fW_types 0 0 = T + k ∧ υ fM_types 0 0 = T + k ∧ (∀ i, ρ fW_typeValues 0 i = if T ≤ i ∧ i < T + k then 0 else σ fW_typeValues 0 i)
theorem ta_step (ET : ENV σ τ f N ∧ TOK σ τ f N) {g K T k : Int} (eT : T = σ fW_types 0 0) {ρ υ : ga_S} (H : TA σ τ g K T ρ υ k) (h0 : 0 ≤ k) (hT : 0 ≤ T) (hk : T + k < 8) (R : RU σ τ f N k (σ fR_nameFrom 0 k) (σ fR_nameTo 0 k)) (lt : σ fR_nameFrom 0 k < σ fR_nameTo 0 k) (w : (wN σ k).length ≤ 3 ∧ fnd σ (nN σ k) 0 = -1 ∧ ∀ j, 0 ≤ j → j < k → nN σ k ≠ nN σ j) {d : Nat} (hd : 3 ≤ d) : ∃ ρ1 ρ2 υ2, c_w_newType d ρ = some (T + k, ρ1) ∧ c_r_tell d ρ1 (σ fR_nameFrom 0 k) (σ fR_nameTo 0 k) 1 (T + k) = some (0, ρ2) ∧ c_m_tellRun d υ 2 (T + k) k = some (0, υ2) ∧ fr [fW_types, fW_typeValues] ρ ρ1 ∧ υ2 fM_types 0 0 = T + k ∧ TA σ τ g K T ρ2 (ga_up υ2 fM_types 0 0 (T + k + 1)) (k + 1) := by
  obtain ⟨H1, H2, H3, H4, H5, H6⟩ := H
  obtain ⟨d, rfl⟩ : ∃ e, d = e + 1 := ⟨d - 1, by omega⟩
  have run1 := e_w_newType d ρ
  rw [H4, ck_ok _ (by omega), w32_ok (x := T + k + 1) (by omega)] at run1
  obtain ⟨ρ1, e1⟩ : ∃ x, x = ga_up (ga_up ρ fW_typeValues 0 (T + k) 0) fW_types 0 0 (T + k + 1) := ⟨_, rfl⟩
  rw [← e1] at run1
  have f1 : fr [fW_types, fW_typeValues] ρ ρ1 := by rw [e1]; exact fr_trans (fr_u (by decide)) (fr_u (by decide))
  have n1 : ρ1 fW_types 0 0 = T + k + 1 := by rw [e1, up_eq]
  have H1' := H1
  obtain ⟨N1, N2, N3, N4, N5, N6⟩ := H1'
  have B1 : cB ρ1 := by
    have Bc := N3.2.2.2.2.1
    unfold cB at Bc ⊢
    rw [f1 fW_actions (by decide), f1 fW_objects (by decide), n1, f1 fW_kinds (by decide), f1 fW_values (by decide), f1 fW_properties (by decide), f1 fW_adjectives (by decide), f1 fW_verbs (by decide), f1 fW_relations (by decide)]
    exact ⟨Bc.1, Bc.2.1, Bc.2.2.1, by omega, Bc.2.2.2.2⟩
  have D1 : DW ρ1 υ g := DW_cm N3 (fr_mem f1 (by decide)) (fun F hF => by
      by_cases z : F = fW_types
      · rw [z, n1, H4]; omega
      · rw [f1 F (by revert z; revert F; decide)]; exact Int.le_refl _) (fun _ _ => rfl) B1
  have mx : mxN ρ1 1 = T + k + 1 := n1
  have GG : GC σ ρ1 := by
    have f01 : fr ([fW_types, fW_typeValues] ++ dicL ++ spL) σ ρ1 := fr_trans H2 (fr_sub f1 (by decide))
    exact GC_g f01 (by decide) (cnt_1 f01 fW_types (by decide) (by rw [n1, ← eT]; omega)) (Or.inl (by decide)) (by decide) (Or.inl (by decide)) (Or.inl (by decide)) (Or.inl (by decide)) (Or.inl (by decide))
  obtain ⟨ρ2, υ2, t1, t2, t3, t4, t5⟩ := nc_tell ET H1 h0 f1 (by decide) GG (fr_refl [] υ) (by decide) D1 (s := 1) (n := T + k) (Or.inr rfl) (by omega) (by omega) (fun j l e => by
      have x := (N3.2.1 j l).1
      rw [e] at x
      have x' : ρ fD_numbers 0 j < ρ fW_types 0 0 := x
      omega) R lt w (d := d + 1) (by omega)
  have u2 : υ2 fM_types 0 0 = T + k := by rw [t4 _ (by decide)]; exact H5
  obtain ⟨υ3, e3⟩ : ∃ x, x = ga_up υ2 fM_types 0 0 (T + k + 1) := ⟨_, rfl⟩
  have f3 : fr [fM_types] υ2 υ3 := by rw [e3]; exact fr_u (by decide)
  refine ⟨ρ1, ρ2, υ2, run1, t1, t2, f1, u2, ?_⟩
  rw [← e3]
  obtain ⟨q1, q2, q3, q4⟩ := t5
  refine ⟨⟨q1, tkT_f q2 f3 (by decide), DW_cm q3 (fun _ _ => rfl) (fun _ _ => Int.le_refl _) (fr_mem f3 (by decide)) q3.2.2.2.2.1, q4⟩, fr_trans H2 (fr_trans (fr_sub f1 (by decide)) (fr_sub t3 (by decide))), fr_trans H3 (fr_trans (fr_sub t4 (by decide)) (fr_sub f3 (by decide))), ?_, ?_, fun i => ?_⟩
  · rw [t3 _ (by decide), n1]; omega
  · rw [e3, up_eq]; omega
  · rw [t3 _ (by decide), e1, up_F (by decide), up_at, H6]
    by_cases c : i = T + k
    · rw [if_pos c, if_pos (by omega)]
    · rw [if_neg c]
      by_cases c2 : T ≤ i ∧ i < T + k
      · rw [if_pos c2, if_pos (by omega)]
      · rw [if_neg c2, if_neg (by omega)]
end

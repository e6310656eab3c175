/-! the act of values of a type -/
section
variable {σ τ : ga_S} {f : Int} {N : Nat}
def a16C : List Nat := [fW_values, fW_valueTypes, fW_typeValues] ++ dicL ++ spL
def a16M : List Nat := [fM_values, fM_valueType] ++ lexL
/-- ahead of value k -/
def VC (σ τ : ga_S) (g V T : Int) (ρ υ : ga_S) (k : Int) : Prop := tkS σ ρ ∧ tkT τ υ ∧ DW ρ υ g ∧ fr a16C σ ρ ∧ fr a16M τ υ ∧ ρ fW_values 0 0 = V + k ∧ υ fM_values 0 0 = V + k ∧ (∀ i, ρ fW_valueTypes 0 i = if V ≤ i ∧ i < V + k then T else σ fW_valueTypes 0 i) ∧ (∀ i, υ fM_valueType 0 i = if V ≤ i ∧ i < V + k then T else τ fM_valueType 0 i) ∧ (∀ t, ρ fW_typeValues 0 t = σ fW_typeValues 0 t + (if T = t then k else 0)) ∧ (∀ t, cntV ρ t = cntV σ t + (if T = t then k else 0)) ∧ (∀ nm, fnd σ nm 0 = -1 → (∀ j, 0 ≤ j → j < k → nm ≠ nR σ j) → fnd ρ nm 0 = -1) ∧ ∀ v, V ≤ v → v < V + k → tld ρ 4 v
theorem vc_step (ET : ENV σ τ f N ∧ TOK σ τ f N) {g V T k r : Int} (eV : V = σ fW_values 0 0) {ρ υ : ga_S} (H : VC σ τ g V T ρ υ k) (h0 : 0 ≤ k) (hV : 0 ≤ V) (hk : V + k < 64) (hT : 0 ≤ T ∧ T < 8) (hv : 0 ≤ σ fW_typeValues 0 T ∧ σ fW_typeValues 0 T + k < 8) (R : RU σ τ f N r (σ fR_runFrom 0 k) (σ fR_runTo 0 k)) (lt : σ fR_runFrom 0 k < σ fR_runTo 0 k) (w : (wC σ k).length ≤ 3 ∧ fnd σ (nR σ k) 0 = -1 ∧ ∀ j, 0 ≤ j → j < k → nR σ k ≠ nR σ j) {d : Nat} (hd : 3 ≤ d) : ∃ ρ1 ρ2 υ1 υ2, c_w_newValue d ρ T = some (V + k, ρ1) ∧ c_r_tell d ρ1 (σ fR_runFrom 0 k) (σ fR_runTo 0 k) 4 (V + k) = some (0, ρ2) ∧ υ1 = ga_up υ fM_valueType 0 (V + k) T ∧ c_m_tellRun d υ1 6 (V + k) r = some (0, υ2) ∧ υ2 fM_values 0 0 = V + k ∧ VC σ τ g V T ρ2 (ga_up υ2 fM_values 0 0 (V + k + 1)) (k + 1) := by
  obtain ⟨H1, H2, H3, H4, H5, H6, H7, H8, H9, H10, H11, H12, H13⟩ := H
  obtain ⟨d, rfl⟩ : ∃ e, d = e + 1 := ⟨d - 1, by omega⟩
  have tvT : ρ fW_typeValues 0 T = σ fW_typeValues 0 T + k := by rw [H10, if_pos rfl]
  have run1 := e_w_newValue d ρ T
  rw [H6, ck_ok _ (by omega), ck_ok _ hT, ck_ok _ hT, tvT, w32_ok (x := σ fW_typeValues 0 T + k + 1) (by omega), w32_ok (x := V + k + 1) (by omega)] at run1
  obtain ⟨ρ1, e1⟩ : ∃ x, x = ga_up (ga_up (ga_up ρ fW_valueTypes 0 (V + k) T) fW_typeValues 0 T (σ fW_typeValues 0 T + k + 1)) fW_values 0 0 (V + k + 1) := ⟨_, rfl⟩
  rw [← e1] at run1
  have f1 : fr [fW_values, fW_valueTypes, fW_typeValues] ρ ρ1 := by rw [e1]; exact fr_trans (fr_u (by decide)) (fr_trans (fr_u (by decide)) (fr_u (by decide)))
  obtain ⟨υ1, e2⟩ : ∃ x, x = ga_up υ fM_valueType 0 (V + k) T := ⟨_, rfl⟩
  have f2 : fr [fM_valueType] υ υ1 := by rw [e2]; exact fr_u (by decide)
  have n1 : ρ1 fW_values 0 0 = V + k + 1 := by rw [e1, up_eq]
  have v1 : ∀ i, ρ1 fW_valueTypes 0 i = if i = V + k then T else ρ fW_valueTypes 0 i := by
    intro i; rw [e1, up_F (by decide), up_F (by decide), up_at]
  have t1 : ∀ t, ρ1 fW_typeValues 0 t = ρ fW_typeValues 0 t + (if T = t then 1 else 0) := by
    intro t
    rw [e1, up_F (by decide), up_at, up_F (by decide)]
    by_cases c : t = T
    · rw [if_pos c, if_pos c.symm, c, tvT]
    · rw [if_neg c, if_neg (fun z => c z.symm)]; omega
  have B1 : cB ρ1 := by
    have Bc := H3.2.2.2.2.1
    unfold cB at Bc ⊢
    rw [f1 fW_kinds (by decide), f1 fW_objects (by decide), n1, f1 fW_types (by decide), f1 fW_actions (by decide), f1 fW_properties (by decide), f1 fW_adjectives (by decide), f1 fW_verbs (by decide), f1 fW_relations (by decide)]
    exact ⟨Bc.1, Bc.2.1, Bc.2.2.1, Bc.2.2.2.1, by omega, Bc.2.2.2.2.2⟩
  have D1 : DW ρ1 υ1 g := DW_cm H3 (fr_mem f1 (by decide)) (fun F hF => by
      by_cases z : F = fW_values
      · rw [z, n1, H6]; omega
      · rw [f1 F (by revert z; revert F; decide)]; exact Int.le_refl _) (fr_mem f2 (by decide)) B1
  have dic1 := dic_c (fr_mem f1 (M := dicL) (by decide))
  have len0 : σ fR_runTo 0 k - σ fR_runFrom 0 k ≤ 3 := by have := wsT_len (σ := σ) R.2.2.2.2.1; have := w.1; unfold wC at this; omega
  have nw : fnd ρ1 (nmT σ (σ fR_runFrom 0 k) (σ fR_runTo 0 k)) 0 = -1 := by
    rw [dic1.1]; exact H12 _ w.2.1 w.2.2
  have mx4 : mxN ρ1 4 = V + k + 1 := n1
  have GG : GC σ ρ1 := by
    have f01 : fr a16C σ ρ1 := fr_trans H4 (fr_sub f1 (by decide))
    refine GC_g f01 (by decide) (cnt_1 f01 fW_values (by decide) (by rw [n1, ← eV]; omega)) (Or.inl (by decide)) (by decide) (Or.inl (by decide)) (Or.inr (fun a a0 a1 => ?_)) (Or.inl (by decide)) (Or.inl (by decide))
    rw [← eV] at a1
    rw [v1, if_neg (by omega), H8, if_neg (by omega)]
  obtain ⟨ρ2, υ2, d1, d2, d3, d4, d5, d6, d7⟩ := tell_J ET (tkS_g H1 f1 (by decide) GG) (tkT_f H2 f2 (by decide)) D1 (s := 4) (n := V + k) R lt len0 nw (by omega) (by omega) (by omega) (by omega) (fun j l e => by
      have l' : live ρ j := by unfold live at l ⊢; rw [f1 fD_count (by decide), f1 fD_sorts (by decide)] at l; exact l
      have x := (H3.2.1 j l').1
      rw [f1 fD_sorts (by decide)] at e
      rw [e] at x
      rw [f1 fD_numbers (by decide)]
      have x' : ρ fD_numbers 0 j < ρ fW_values 0 0 := x
      omega) (d := d + 1) (d' := d + 1) (by omega) (by omega)
  have d2' : c_m_tellRun (d + 1) υ1 6 (V + k) r = some (0, υ2) := by
    have e5 : sM 4 (V + k) = 6 := rfl
    have e6 : iM 4 (V + k) = V + k := by unfold iM; rw [if_neg (by omega)]
    rw [e5, e6] at d2; exact d2
  have u2 : υ2 fM_values 0 0 = V + k := by rw [d4.1 _ (by decide), f2 _ (by decide)]; exact H7
  obtain ⟨υ3, e3⟩ : ∃ x, x = ga_up υ2 fM_values 0 0 (V + k + 1) := ⟨_, rfl⟩
  have f3 : fr [fM_values] υ2 υ3 := by rw [e3]; exact fr_u (by decide)
  have D3 : DW ρ2 υ3 g := DW_cm d5 (fun _ _ => rfl) (fun _ _ => Int.le_refl _) (fr_mem f3 (by decide)) d5.2.2.2.2.1
  refine ⟨ρ1, ρ2, υ1, υ2, run1, d1, e2, d2', u2, ?_⟩
  rw [← e3]
  refine ⟨d6, tkT_f d7 f3 (by decide), D3, fr_trans H4 (fr_trans (fr_sub f1 (by decide)) (fr_sub d3.1 (by decide))), fr_trans H5 (fr_trans (fr_sub f2 (by decide)) (fr_trans (fr_sub d4.1 (by decide)) (fr_sub f3 (by decide)))), ?_, ?_, fun i => ?_, fun i => ?_, fun t => ?_, fun t => ?_, fun nm z1 z2 => ?_, fun v z0 z1 => ?_⟩
  · rw [d3.1 _ (by decide), n1]; omega
  · rw [e3, up_eq]; omega
  · rw [d3.1 _ (by decide), v1, H8]
    by_cases c : i = V + k
    · rw [if_pos c, if_pos (by omega)]
    · rw [if_neg c]
      by_cases c2 : V ≤ i ∧ i < V + k
      · rw [if_pos c2, if_pos (by omega)]
      · rw [if_neg c2, if_neg (by omega)]
  · rw [f3 _ (by decide), d4.1 _ (by decide), e2, up_at, H9]
    by_cases c : i = V + k
    · rw [if_pos c, if_pos (by omega)]
    · rw [if_neg c]
      by_cases c2 : V ≤ i ∧ i < V + k
      · rw [if_pos c2, if_pos (by omega)]
      · rw [if_neg c2, if_neg (by omega)]
  · rw [d3.1 _ (by decide), t1, H10]
    by_cases c : T = t
    · rw [if_pos c, if_pos c, if_pos c]; omega
    · rw [if_neg c, if_neg c, if_neg c]; omega
  · have a := cntV_more (σ := ρ) (σ' := ρ2) (v := V + k) (T := T) H6.symm (by omega) (by rw [d3.1 _ (by decide), n1]) (fun i => by rw [d3.1 _ (by decide), v1]) t
    rw [a, H11]
    by_cases c : T = t
    · rw [if_pos c, if_pos c, if_pos c]; omega
    · rw [if_neg c, if_neg c, if_neg c]; omega
  · have F := fnd_tell D1.1 d3 (by decide) nw nm
    rw [F, dic1.1, if_pos (H12 nm z1 (fun j j0 j1 => z2 j j0 (by omega))), if_neg]
    exact z2 k h0 (by omega)
  · by_cases c : v = V + k
    · rw [c]; exact tld_T D1.1.1 (by decide) d3 (wsT_W ET.2 R.2.2.2) rfl
    · have t := tld_f (H13 v z0 (by omega)) (fr_mem f1 (by decide))
      exact tld_X t (by decide) (DX_tell (DX_r _) d3)
end

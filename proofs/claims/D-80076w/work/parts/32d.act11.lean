/-! the act of new actions -/
section
variable {σ τ : ga_S} {f : Int} {N : Nat}
def a11C : List Nat := [fW_actions, fW_actionKinds] ++ dicL ++ spL
def a11M : List Nat := [fM_actions, fM_actionKind] ++ lexL
/-- ahead of name k: A0 actions were there, kd is the kind of the new ones -/
def AC (σ τ : ga_S) (g A0 kd : Int) (ρ υ : ga_S) (k : Int) : Prop := tkS σ ρ ∧ tkT τ υ ∧ DW ρ υ g ∧ fr a11C σ ρ ∧ fr a11M τ υ ∧ ρ fW_actions 0 0 = A0 + k ∧ υ fM_actions 0 0 = A0 + k ∧ (∀ i, ρ fW_actionKinds 0 i = if A0 ≤ i ∧ i < A0 + k then kd else σ fW_actionKinds 0 i) ∧ (∀ i, υ fM_actionKind 0 i = if A0 ≤ i ∧ i < A0 + k then kd else τ fM_actionKind 0 i) ∧ (∀ nm, fnd σ nm 0 = -1 → (∀ j, 0 ≤ j → j < k → nm ≠ nN σ j) → fnd ρ nm 0 = -1) ∧ (∀ nm s, fnd σ nm 0 ≠ -1 → dN ρ nm s = dN σ nm s)
theorem ac_step (ET : ENV σ τ f N ∧ TOK σ τ f N) {g A0 kd k : Int} (e0 : A0 = σ fW_actions 0 0) {ρ υ : ga_S} (H : AC σ τ g A0 kd ρ υ k) (h0 : 0 ≤ k) (hA : 0 ≤ A0) (hk : A0 + k < 12) (R : RU σ τ f N k (σ fR_nameFrom 0 k) (σ fR_nameTo 0 k)) (lt : σ fR_nameFrom 0 k < σ fR_nameTo 0 k) (w : (wN σ k).length ≤ 3 ∧ fnd σ (nN σ k) 0 = -1 ∧ ∀ j, 0 ≤ j → j < k → nN σ k ≠ nN σ j) {d : Nat} (hd : 3 ≤ d) : ∃ ρ1 υ1 ρ2 υ2, c_w_newAction d ρ kd = some (A0 + k, ρ1) ∧ c_m_addAction d υ kd = some (A0 + k, υ1) ∧ c_r_tell d ρ1 (σ fR_nameFrom 0 k) (σ fR_nameTo 0 k) 8 (A0 + k) = some (0, ρ2) ∧ c_m_tellRun d υ1 11 (A0 + k) k = some (0, υ2) ∧ fr [fM_actions, fM_actionKind] υ υ1 ∧ AC σ τ g A0 kd ρ2 υ2 (k + 1) := by
  obtain ⟨H1, H2, H3, H4, H5, H6, H7, H8, H9, H10, H11⟩ := H
  obtain ⟨d, rfl⟩ : ∃ e, d = e + 1 := ⟨d - 1, by omega⟩
  have run1 := e_w_newAction d ρ kd
  rw [H6, ck_ok _ (by omega), w32_ok (x := A0 + k + 1) (by omega)] at run1
  have run2 := e_m_addAction d υ kd
  rw [H7, ck_ok _ (by omega), w32_ok (x := A0 + k + 1) (by omega), w32_ok (x := A0 + k + 1 - 1) (by omega), show A0 + k + 1 - 1 = A0 + k by omega] at run2
  obtain ⟨ρ1, e1⟩ : ∃ x, x = ga_up (ga_up ρ fW_actionKinds 0 (A0 + k) kd) fW_actions 0 0 (A0 + k + 1) := ⟨_, rfl⟩
  obtain ⟨υ1, e2⟩ : ∃ x, x = ga_up (ga_up υ fM_actionKind 0 (A0 + k) kd) fM_actions 0 0 (A0 + k + 1) := ⟨_, rfl⟩
  rw [← e1] at run1
  rw [← e2] at run2
  have f1 : fr [fW_actions, fW_actionKinds] ρ ρ1 := by rw [e1]; exact fr_trans (fr_u (by decide)) (fr_u (by decide))
  have f2 : fr [fM_actions, fM_actionKind] υ υ1 := by rw [e2]; exact fr_trans (fr_u (by decide)) (fr_u (by decide))
  have n1 : ρ1 fW_actions 0 0 = A0 + k + 1 := by rw [e1, up_eq]
  have B1 : cB ρ1 := by
    have Bc := H3.2.2.2.2.1
    unfold cB at Bc ⊢
    rw [f1 fW_kinds (by decide), f1 fW_objects (by decide), n1, f1 fW_types (by decide), f1 fW_values (by decide), f1 fW_properties (by decide), f1 fW_adjectives (by decide), f1 fW_verbs (by decide), f1 fW_relations (by decide)]
    exact ⟨Bc.1, Bc.2.1, Bc.2.2.1, Bc.2.2.2.1, Bc.2.2.2.2.1, Bc.2.2.2.2.2.1, Bc.2.2.2.2.2.2.1, Bc.2.2.2.2.2.2.2.1, by omega⟩
  have D1 : DW ρ1 υ1 g := DW_cm H3 (fr_mem f1 (by decide)) (fun F hF => by
      by_cases z : F = fW_actions
      · rw [z, n1, H6]; omega
      · rw [f1 F (by revert z; revert F; decide)]; exact Int.le_refl _) (fr_mem f2 (by decide)) B1
  have dic1 := dic_c (fr_mem f1 (M := dicL) (by decide))
  have len0 : σ fR_nameTo 0 k - σ fR_nameFrom 0 k ≤ 3 := by have := wsT_len (σ := σ) R.2.2.2.2.1; have := w.1; unfold wN at this; omega
  have nw : fnd ρ1 (nmT σ (σ fR_nameFrom 0 k) (σ fR_nameTo 0 k)) 0 = -1 := by
    rw [dic1.1]; exact H10 _ w.2.1 w.2.2
  have mx8 : mxN ρ1 8 = A0 + k + 1 := n1
  have GG : GC σ ρ1 := by
    have f01 : fr a11C σ ρ1 := fr_trans H4 (fr_sub f1 (by decide))
    refine GC_g f01 (by decide) (cnt_1 f01 fW_actions (by decide) (by rw [n1, ← e0]; omega)) (Or.inl (by decide)) (by decide) (Or.inl (by decide)) (Or.inl (by decide)) (Or.inl (by decide)) (Or.inr (fun a a0 a1 => ?_))
    rw [← e0] at a1
    rw [e1, up_F (by decide), up_i (by omega), H8, if_neg (by omega)]
  obtain ⟨ρ2, υ2, d1, d2, d3, d4, d5, d6, d7⟩ := tell_J ET (tkS_g H1 f1 (by decide) GG) (tkT_f H2 f2 (by decide)) D1 (s := 8) (n := A0 + k) R lt len0 nw (by omega) (by omega) (by omega) (by omega) (fun j l e => by
      have l' : live ρ j := by unfold live at l ⊢; rw [f1 fD_count (by decide), f1 fD_sorts (by decide)] at l; exact l
      have x := (H3.2.1 j l').1
      rw [f1 fD_sorts (by decide)] at e
      rw [e] at x
      rw [f1 fD_numbers (by decide)]
      have x' : ρ fD_numbers 0 j < ρ fW_actions 0 0 := x
      omega) (d := d + 1) (d' := d + 1) (by omega) (by omega)
  have d2' : c_m_tellRun (d + 1) υ1 11 (A0 + k) k = some (0, υ2) := by
    have e5 : sM 8 (A0 + k) = 11 := rfl
    have e6 : iM 8 (A0 + k) = A0 + k := by unfold iM; rw [if_neg (by omega)]
    rw [e5, e6] at d2; exact d2
  refine ⟨ρ1, υ1, ρ2, υ2, run1, run2, d1, d2', f2, d6, d7, d5, fr_trans H4 (fr_trans (fr_sub f1 (by decide)) (fr_sub d3.1 (by decide))), fr_trans H5 (fr_trans (fr_sub f2 (by decide)) (fr_sub d4.1 (by decide))), ?_, ?_, fun i => ?_, fun i => ?_, fun nm z1 z2 => ?_, fun nm s z => ?_⟩
  · rw [d3.1 _ (by decide), n1]; omega
  · rw [d4.1 _ (by decide), e2, up_eq]; omega
  · rw [d3.1 _ (by decide), e1, up_F (by decide), up_at, H8]
    by_cases c : i = A0 + k
    · rw [if_pos c, if_pos (by omega)]
    · rw [if_neg c]
      by_cases c2 : A0 ≤ i ∧ i < A0 + k
      · rw [if_pos c2, if_pos (by omega)]
      · rw [if_neg c2, if_neg (by omega)]
  · rw [d4.1 _ (by decide), e2, up_F (by decide), up_at, H9]
    by_cases c : i = A0 + k
    · rw [if_pos c, if_pos (by omega)]
    · rw [if_neg c]
      by_cases c2 : A0 ≤ i ∧ i < A0 + k
      · rw [if_pos c2, if_pos (by omega)]
      · rw [if_neg c2, if_neg (by omega)]
  · have F := fnd_tell D1.1 d3 (by decide) nw nm
    rw [F, dic1.1, if_pos (H10 nm z1 (fun j j0 j1 => z2 j j0 (by omega))), if_neg]
    exact z2 k h0 (by omega)
  · have F := dN_tell D1.1 d3 (by decide) nw nm s
    have ne : nm ≠ nmT σ (σ fR_nameFrom 0 k) (σ fR_nameTo 0 k) := fun y => z (by rw [y]; exact w.2.1)
    rw [F, if_neg ne, dic1.2.1]
    exact H11 nm s z
end

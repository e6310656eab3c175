/-! what is written out, on both sides -/
def ouC : List Nat := [fU_outs, fU_out]
def ouM : List Nat := [fM_outSize, fM_out]
def OJ (σ τ : ga_S) : Prop := τ fM_isDry 0 0 = 0 ∧ τ fM_outSize 0 0 = σ fU_outs 0 0 ∧ (0 ≤ σ fU_outs 0 0 ∧ σ fU_outs 0 0 ≤ 2000) ∧ ∀ i, 0 ≤ i → i < σ fU_outs 0 0 → τ fM_out 0 i = σ fU_out 0 i
section
variable {σ τ σ' τ' : ga_S}
theorem OJ_AP (A : AP σ τ) : OJ σ τ := ⟨A.1.2.2.1, A.1.1.2.2.2.2⟩
theorem AP_out (A : AP σ τ) (f1 : fr ouC σ σ') (f2 : fr ouM τ τ') (J : OJ σ' τ') : AP σ' τ' := by
  obtain ⟨⟨⟨q1, q2, q3, q4, o⟩, al, dr, ft⟩, ⟨g, X⟩, O⟩ := A
  refine ⟨⟨⟨?_, ?_, ?_, ?_, J.2⟩, by rw [f1 _ (by decide)]; exact al, J.1, by rw [f2 _ (by decide), f1 _ (by decide)]; exact ft⟩, ⟨g, SX_f X f1 (by decide) f2 (by decide)⟩, ORD_f O f1 (by decide)⟩
  · rw [f1 _ (by decide), f1 _ (by decide), f2 _ (by decide), f2 _ (by decide)]; exact q1
  · unfold byteR at q2 ⊢
    rw [f1 _ (by decide), f1 _ (by decide), f2 _ (by decide), f2 _ (by decide)]; exact q2
  · unfold rAll at q3 ⊢
    rw [f1 _ (by decide), f1 _ (by decide)]; exact q3
  · unfold rKeys at q4 ⊢
    rw [f1 _ (by decide), f2 _ (by decide)]; exact q4
/-- one letter -/
theorem wr_J (J : OJ σ τ) (a : Int) {d : Nat} (hd : 1 ≤ d) : ∃ σ' τ', c_u_write d σ a = some (0, σ') ∧ c_m_put d τ a = some (0, τ') ∧ fr ouC σ σ' ∧ fr ouM τ τ' ∧ OJ σ' τ' := by
  obtain ⟨d, rfl⟩ : ∃ e, d = e + 1 := ⟨d - 1, by omega⟩
  obtain ⟨j1, j2, j3, j4⟩ := J
  by_cases c : σ fU_outs 0 0 < 2000
  · rw [e_u_write, e_m_put, j2, if_pos c, if_pos c, if_pos j1, ck_ok _ (by omega), ck_ok _ (by omega), w32_ok (by omega)]
    obtain ⟨x, ex⟩ : ∃ x, x = σ fU_outs 0 0 := ⟨_, rfl⟩
    rw [← ex] at j2 j3 j4 c ⊢
    refine ⟨_, _, rfl, rfl, fr_trans (fr_u (by decide)) (fr_u (by decide)), fr_trans (fr_u (by decide)) (fr_u (by decide)), ?_⟩
    have e1 : (ga_up (ga_up σ fU_outs 0 0 (x + 1)) fU_out 0 x (w8 (w8 a))) fU_outs 0 0 = x + 1 := by rw [up_F (by decide), up_eq]
    refine ⟨?_, ?_, ?_, ?_⟩
    · rw [up_F (by decide), up_F (by decide)]; exact j1
    · rw [e1, up_eq]
    · rw [e1]; omega
    · intro i i0 i1
      rw [e1] at i1
      rw [up_F (F := fM_outSize) (F' := fM_out) (by decide)]
      by_cases ci : i = x
      · rw [ci, up_eq, up_eq]
      · unfold ga_up
        rw [if_neg (fun z => ci z.2.2), if_neg (fun z => ci z.2.2), if_neg (fun z => absurd z.1 (by decide))]
        exact j4 i i0 (by omega)
  · rw [e_u_write, e_m_put, j2, if_neg c, if_neg c]
    exact ⟨σ, τ, rfl, rfl, fr_refl _ _, fr_refl _ _, j1, j2, j3, j4⟩
end

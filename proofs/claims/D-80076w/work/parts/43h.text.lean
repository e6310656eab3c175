/-! a text written out, on both sides -/
theorem wt_2 {a b n : Int} (ha : 0 ≤ a ∧ a + n ≤ 5000) (hb : 0 ≤ b ∧ b + n ≤ 5000) {d : Nat} (hd : 1 ≤ d) : ∀ m : Nat, ∀ (i : Int) (σ τ : ga_S), 0 ≤ i → i + m = n → (∀ q, 0 ≤ q → q < n → τ fM_story 0 (b + q) = σ fT_bytes 1 (a + q)) → OJ σ τ → ∃ σ' τ', u_writeText_2 d σ a n i = some (0, σ') ∧ m_putProperty_43 d τ b n i = some (0, τ') ∧ fr ouC σ σ' ∧ fr ouM τ τ' ∧ OJ σ' τ'
  | 0, i, σ, τ, hi, e, h, J => by
    refine ⟨σ, τ, ?_, ?_, fr_refl _ _, fr_refl _ _, J⟩
    · rw [e_u_writeText_2, if_neg (by omega)]
    · rw [e_m_putProperty_43, if_neg (by omega)]
  | m + 1, i, σ, τ, hi, e, h, J => by
    obtain ⟨σ1, τ1, a1, a2, f1, f2, J1⟩ := wr_J J (σ fT_bytes 1 (a + i)) (d := d) (by omega)
    obtain ⟨σ2, τ2, b1, b2, g1, g2, J2⟩ := wt_2 ha hb hd m (i + 1) σ1 τ1 (by omega) (by omega) (by rw [f1 fT_bytes (by decide), f2 fM_story (by decide)]; exact h) J1
    refine ⟨σ2, τ2, ?_, ?_, fr_trans f1 g1, fr_trans f2 g2, J2⟩
    · rw [e_u_writeText_2, if_pos (by omega), nn_ok _ (by decide), nn_ok _ (by decide), w32_ok (x := a + i) (by omega), ck_ok _ (by omega)]
      show Option.bind (c_u_write d σ (σ fT_bytes 1 (a + i))) _ = _
      rw [a1, Option.bind_some, w32_ok (by omega)]; exact b1
    · rw [e_m_putProperty_43, if_pos (by omega), w32_ok (x := b + i) (by omega), ck_ok _ (by omega), h i hi (by omega), a2, Option.bind_some, w32_ok (by omega)]; exact b2

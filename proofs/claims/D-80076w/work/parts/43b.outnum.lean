/-! a number written out, on both sides -/
def p10 : Nat → Int
  | 0 => 0
  | n + 1 => 10 ^ n
theorem p10_r : ∀ n : Nat, n ≤ 6 → (0 < n → 0 < p10 n) ∧ p10 n ≤ 100000 ∧ 0 ≤ p10 n ∧ w32 (Int.tdiv (p10 (n + 1)) 10) = p10 n ∧ w32 (p10 (n + 1) * 10) = p10 (n + 2) := by
  intro n hn
  have e : n = 0 ∨ n = 1 ∨ n = 2 ∨ n = 3 ∨ n = 4 ∨ n = 5 ∨ n = 6 := by omega
  rcases e with e | e | e | e | e | e | e <;> subst e <;> decide
section
variable {σ τ : ga_S}
theorem wn_39 (v : Int) {d : Nat} (hd : 1 ≤ d) : ∀ n : Nat, n ≤ 6 → ∀ σ τ : ga_S, OJ σ τ → ∃ σ' τ', u_writeNumber_39 d σ v (p10 n) = some (0, σ') ∧ m_putNumber_33 d τ v (p10 n) = some (0, τ') ∧ fr ouC σ σ' ∧ fr ouM τ τ' ∧ OJ σ' τ'
  | 0, _, σ, τ, J => by
    rw [e_u_writeNumber_39, e_m_putNumber_33, if_neg (by decide), if_neg (by decide)]
    exact ⟨σ, τ, rfl, rfl, fr_refl _ _, fr_refl _ _, J⟩
  | n + 1, hn, σ, τ, J => by
    have p := (p10_r (n + 1) hn).1 (by omega)
    have q := (p10_r n (by omega)).2.2.2.1
    obtain ⟨σ1, τ1, a1, a2, f1, f2, J1⟩ := wr_J J (w32 (48 + (w32 (Int.tmod (w32 (Int.tdiv v (p10 (n + 1)))) 10)))) hd
    obtain ⟨σ2, τ2, b1, b2, g1, g2, J2⟩ := wn_39 v hd n (by omega) σ1 τ1 J1
    refine ⟨σ2, τ2, ?_, ?_, fr_trans f1 g1, fr_trans f2 g2, J2⟩
    · rw [e_u_writeNumber_39, if_pos p, nz_ok _ (by omega), a1, Option.bind_some, q]; exact b1
    · rw [e_m_putNumber_33, if_pos p, nz_ok _ (by omega), a2, Option.bind_some, q]; exact b2
theorem wn_23 {v : Int} (hv : 0 ≤ v ∧ v ≤ 999999) {d : Nat} (hd : 1 ≤ d) (J : OJ σ τ) : ∀ m n : Nat, n + m = 6 → 0 < n → ∃ σ' τ', u_writeNumber_23 d σ v (p10 n) = some (0, σ') ∧ m_putNumber_17 d τ v (p10 n) = some (0, τ') ∧ fr ouC σ σ' ∧ fr ouM τ τ' ∧ OJ σ' τ'
  | 0, n, hm, hn => by
    have e : n = 6 := by omega
    subst e
    have p : p10 6 = 100000 := by decide
    have t : ¬ (9 < w32 (Int.tdiv v (p10 6))) := by
      rw [p, Int.tdiv_eq_ediv_of_nonneg hv.1, w32_ok (by omega)]; omega
    rw [e_u_writeNumber_23, e_m_putNumber_17, nz_ok _ (by omega), nz_ok _ (by omega), if_neg t, if_neg t]
    exact wn_39 v hd 6 (by omega) σ τ J
  | m + 1, n, hm, hn => by
    obtain ⟨k, rfl⟩ : ∃ k, n = k + 1 := ⟨n - 1, by omega⟩
    have p := (p10_r (k + 1) (by omega)).1 (by omega)
    have q := (p10_r k (by omega)).2.2.2.2
    rw [e_u_writeNumber_23, e_m_putNumber_17, nz_ok _ (by omega), nz_ok _ (by omega)]
    by_cases c : 9 < w32 (Int.tdiv v (p10 (k + 1)))
    · rw [if_pos c, if_pos c, q]
      exact wn_23 hv hd J m (k + 2) (by omega) (by omega)
    · rw [if_neg c, if_neg c]
      exact wn_39 v hd (k + 1) (by omega) σ τ J
/-- a number -/
theorem wn_J (J : OJ σ τ) {v : Int} (hv : -999999 ≤ v ∧ v ≤ 999999) {d : Nat} (hd : 2 ≤ d) : ∃ σ' τ', c_u_writeNumber d σ v = some (0, σ') ∧ c_m_putNumber d τ v = some (0, τ') ∧ fr ouC σ σ' ∧ fr ouM τ τ' ∧ OJ σ' τ' := by
  obtain ⟨d, rfl⟩ : ∃ e, d = e + 1 := ⟨d - 1, by omega⟩
  have p1 : p10 1 = 1 := by decide
  by_cases c : v < 0
  · obtain ⟨σ1, τ1, a1, a2, f1, f2, J1⟩ := wr_J J 45 (d := d) (by omega)
    obtain ⟨σ2, τ2, b1, b2, g1, g2, J2⟩ := wn_23 (v := -v) (by omega) (d := d) (by omega) J1 5 1 (by omega) (by omega)
    rw [p1] at b1 b2
    refine ⟨σ2, τ2, ?_, ?_, fr_trans f1 g1, fr_trans f2 g2, J2⟩
    · rw [e_u_writeNumber, if_pos c, e_u_writeNumber_10, if_pos c, a1, Option.bind_some, e_u_writeNumber_21, w32_ok (by omega)]; exact b1
    · rw [e_m_putNumber, if_pos c, a2, Option.bind_some, e_m_putNumber_10, s_p_abs (by omega), Option.bind_some, if_pos c, w32_ok (by omega)]; exact b2
  · obtain ⟨σ2, τ2, b1, b2, g1, g2, J2⟩ := wn_23 (v := v) (by omega) (d := d) (by omega) J 5 1 (by omega) (by omega)
    rw [p1] at b1 b2
    refine ⟨σ2, τ2, ?_, ?_, g1, g2, J2⟩
    · rw [e_u_writeNumber, if_neg c, e_u_writeNumber_10, if_neg c, e_u_writeNumber_21]; exact b1
    · rw [e_m_putNumber, if_neg c, e_m_putNumber_10, s_p_abs (by omega), Option.bind_some, if_neg c]; exact b2
end

/-! prims make Strings, never unmake them -/
theorem am_hpm : ∀ (j : Nat) (vs : List ga_V) (σ : ga_S) (q : ga_R), am_prim j vs σ = some q → ga_al σ ≤ ga_al q.2 := by
  intro j vs σ q h
  unfold am_prim at h
  cases e0 : Nat.beq j 1000 with
  | true =>
    rw [e0, cond_true] at h
    split at h
    · cases (ga_cond_inv h).2; exact Nat.le_refl _
    · cases h
  | false =>
  rw [e0, cond_false] at h
  cases e1 : Nat.beq j 1001 with
  | true =>
    rw [e1, cond_true] at h
    split at h
    · cases (ga_ck_inv (ga_cond_inv h).2).2.2; exact Nat.le_refl _
    · cases h
  | false =>
  rw [e1, cond_false] at h
  cases e2 : Nat.beq j 1002 with
  | true =>
    rw [e2, cond_true] at h
    split at h
    · have h := (ga_cond_inv h).2
      split at h
      · cases h; exact Nat.le_refl _
      · cases h
    · cases h
  | false =>
  rw [e2, cond_false] at h
  cases e3 : Nat.beq j 1003 with
  | true =>
    rw [e3, cond_true] at h
    split at h
    · have h := (ga_cond_inv h).2
      split at h
      · cases h
        show ga_al σ ≤ ga_al (ga_up σ fX_alloc 0 0 _)
        unfold ga_al ga_up
        rw [if_pos ⟨rfl, rfl, rfl⟩]
        show (σ 330 0 0).toNat ≤ (σ 330 0 0 + 1).toNat
        omega
      · cases h
    · cases h
  | false =>
  rw [e3, cond_false] at h
  cases e4 : Nat.beq j 1004 with
  | true =>
    rw [e4, cond_true] at h
    split at h
    · obtain ⟨c1, c2, n, m, -, -, -, -, -, -, y2, -, y4, -, -, -, -, -, -, -, rfl⟩ := am_cpy_inv h
      have hF := am_ac330 (c := c2) (by omega)
      show ga_al σ ≤ ga_al (am_copy _ _ _ _ _ _ _ _)
      unfold ga_al am_copy
      rw [if_neg (fun z => hF z.1.symm)]
      exact Nat.le_refl _
    · cases h
  | false =>
  rw [e4, cond_false] at h
  cases e5 : Nat.beq j 1005 with
  | true =>
    rw [e5, cond_true] at h
    split at h
    · cases (ga_cond_inv h).2; exact Nat.le_refl _
    · cases h
  | false =>
  rw [e5, cond_false] at h
  cases e6 : Nat.beq j 1006 with
  | true =>
    rw [e6, cond_true] at h
    split at h
    · cases (ga_cond_inv h).2; exact Nat.le_refl _
    · cases h
  | false =>
  rw [e6, cond_false] at h
  cases e7 : Nat.beq j 1007 with
  | true =>
    rw [e7, cond_true] at h
    split at h
    · cases (ga_cond_inv h).2; exact Nat.le_refl _
    · cases h
  | false =>
  rw [e7, cond_false] at h
  cases e8 : Nat.beq j 1008 with
  | true =>
    rw [e8, cond_true] at h
    split at h
    · cases (ga_nn_inv (ga_cond_inv h).2).2; exact Nat.le_refl _
    · cases h
  | false =>
  rw [e8, cond_false] at h
  cases h

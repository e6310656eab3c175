/-! all prims -/
theorem am_ac330 {c : Nat} (h1 : (am_ac c).1 < 4) : (am_ac c).2.2.2.1 ≠ 330 := by
  obtain ⟨u, un⟩ := am_isarr h1
  have hA := am_rng am_ckA_ok u
  unfold am_ckA at hA
  obtain ⟨-, -, -, ta, tb, -⟩ := am_arr u un
  have htag : (am_ac c).2.2.1 < 999 := by
    by_cases z : (am_ac c).1 < 3
    · rw [ta z]; decide
    · rw [tb (by omega)]; decide
  rcases am_or (am_and hA).2 with z | z
  · rcases am_or z with z | z
    · exact absurd (show (am_ac c).1 < 5 by omega) (am_nblt (am_not z))
    · exact absurd htag (am_nblt (am_not z))
  · exact am_nbeq z
/-- what a copy asks, and gives -/
theorem am_cpy_inv {a b : ga_V} {sp dp len : ga_V} {σ : ga_S} {q : ga_R} (h : (bif Nat.blt 2 a.1 && Nat.blt 2 b.1 && Nat.beq sp.1 0 && Nat.beq dp.1 0 && Nat.beq len.1 0 && !(Nat.beq a.1 b.1) && Nat.blt (am_ac (a.1 - 3)).1 4 && !(Nat.beq (am_ac (a.1 - 3)).1 2) && Nat.beq (am_ac (a.1 - 3)).1 (am_ac (b.1 - 3)).1 then
        ga_obj am_G (a.1 - 3) a.2 (fun n => ga_obj am_G (b.1 - 3) b.2 (fun m => am_cpy (am_ac (a.1 - 3)) (am_ac (b.1 - 3)) n sp.2 m dp.2 len.2 σ)) else none) = some q) :
    ∃ (c1 c2 : Nat) (n m : Int), a = (c1 + 3, a.2) ∧ b = (c2 + 3, b.2) ∧ sp = (0, sp.2) ∧ dp = (0, dp.2) ∧ len = (0, len.2) ∧ c1 ≠ c2 ∧ (am_ac c1).1 < 4 ∧ (am_ac c1).1 ≠ 2 ∧ (am_ac c1).1 = (am_ac c2).1 ∧ ((am_sing c1 = true ∧ n = 0) ∨ (0 ≤ a.2 ∧ n = a.2)) ∧ ((am_sing c2 = true ∧ m = 0) ∨ (0 ≤ b.2 ∧ m = b.2)) ∧
      0 ≤ sp.2 ∧ 0 ≤ dp.2 ∧ 0 ≤ len.2 ∧ sp.2 + len.2 ≤ (am_ac c1).2.1 ∧ dp.2 + len.2 ≤ (am_ac c2).2.1 ∧ q = (0, am_copy σ (am_ac c1).2.2.2.1 n sp.2 (am_ac c2).2.2.2.1 m dp.2 len.2) := by
  obtain ⟨a1, a2⟩ := a
  obtain ⟨b1, b2⟩ := b
  obtain ⟨s1, s2⟩ := sp
  obtain ⟨d1, d2⟩ := dp
  obtain ⟨l1, l2⟩ := len
  obtain ⟨h, hk⟩ := ga_cond_inv h
  obtain ⟨h, t9⟩ := am_and h
  obtain ⟨h, t8⟩ := am_and h
  obtain ⟨h, t7⟩ := am_and h
  obtain ⟨h, t6⟩ := am_and h
  obtain ⟨h, t5⟩ := am_and h
  obtain ⟨h, t4⟩ := am_and h
  obtain ⟨h, t3⟩ := am_and h
  obtain ⟨t1, t2⟩ := am_and h
  have t1 : 2 < a1 := ga_blt t1
  have t2 : 2 < b1 := ga_blt t2
  have t3 : s1 = 0 := ga_beq t3
  have t4 : d1 = 0 := ga_beq t4
  have t5 : l1 = 0 := ga_beq t5
  have t6 : a1 ≠ b1 := am_nbeq t6
  subst t3; subst t4; subst t5
  obtain ⟨c1, rfl⟩ : ∃ c1, a1 = c1 + 3 := ⟨a1 - 3, by omega⟩
  obtain ⟨c2, rfl⟩ : ∃ c2, b1 = c2 + 3 := ⟨b1 - 3, by omega⟩
  have u1 : c1 + 3 - 3 = c1 := by omega
  have u2 : c2 + 3 - 3 = c2 := by omega
  dsimp only at t7 t8 t9 hk
  rw [u1] at t7 t8 t9 hk
  rw [u2] at t9 hk
  obtain ⟨n, hn, hk⟩ : ∃ n : Int, ((am_sing c1 = true ∧ n = 0) ∨ (0 ≤ a2 ∧ n = a2)) ∧ ga_obj am_G c2 b2 (fun m => am_cpy (am_ac c1) (am_ac c2) n s2 m d2 l2 σ) = some q := by
    rcases ga_obj_inv hk with ⟨z1, z2⟩ | ⟨z1, z2⟩
    · exact ⟨0, Or.inl ⟨z1, rfl⟩, z2⟩
    · exact ⟨a2, Or.inr ⟨z1, rfl⟩, z2⟩
  obtain ⟨m, hm, hk⟩ : ∃ m : Int, ((am_sing c2 = true ∧ m = 0) ∨ (0 ≤ b2 ∧ m = b2)) ∧ am_cpy (am_ac c1) (am_ac c2) n s2 m d2 l2 σ = some q := by
    rcases ga_obj_inv hk with ⟨z1, z2⟩ | ⟨z1, z2⟩
    · exact ⟨0, Or.inl ⟨z1, rfl⟩, z2⟩
    · exact ⟨b2, Or.inr ⟨z1, rfl⟩, z2⟩
  unfold am_cpy at hk
  split at hk
  · rename_i hc
    obtain ⟨y1, y2, y3, y4, y5⟩ := hc
    exact ⟨c1, c2, n, m, rfl, rfl, rfl, rfl, rfl, by omega, ga_blt t7, am_nbeq t8, ga_beq t9, hn, hm, y1, y2, y3, y4, y5, (Option.some.inj hk).symm⟩
  · cases hk
section
variable {E : ga_E} {cnt : Nat → Nat} {U0 : State} {D : va_G} {l : Launch}
theorem am_hprim (hT : ga_TB (am_YS E cnt U0)) (h8 : cnt 8 = 64) : ga_CRs (am_YS E cnt U0) (am_Sx E cnt U0 D) am_mlP l 0 am_prim := by
  intro X cc own rk r hXl hX hroom hNw hSx inst idx j na rc rt hml vs σ q hq hna hrok
  clear hna hrok
  show am_concl (am_YS E cnt U0) X cc inst idx rt vs σ q
  obtain ⟨j1, j2, hps, hl⟩ := hml
  have hj : j = 1000 ∨ j = 1001 ∨ j = 1002 ∨ j = 1003 ∨ j = 1004 ∨ j = 1005 ∨ j = 1006 ∨ j = 1007 ∨ j = 1008 := by omega
  rcases hj with rfl | rfl | rfl | rfl | rfl | rfl | rfl | rfl | rfl
  · cases (show (inst, na, rc, rt) = (true, 1, 999, (0 : Int)) from hps)
    replace hq : (match (generalizing := false) vs with
      | [s] => bif Nat.beq s.1 2 then some (am_len s.2, σ) else none
      | _ => none) = some q := hq
    split at hq
    · rename_i s
      obtain ⟨t, x⟩ := s
      obtain ⟨e, h⟩ := ga_cond_inv hq
      have e : t = 2 := ga_beq e
      subst e
      cases h
      exact am_p_len hX hroom hSx hl
    · cases hq
  · cases (show (inst, na, rc, rt) = (true, 2, 999, (0 : Int)) from hps)
    replace hq : (match (generalizing := false) vs with
      | [s, i] => bif Nat.beq s.1 2 && Nat.beq i.1 0 then ga_ck i.2 (am_len s.2) (some (am_chr s.2 i.2, σ)) else none
      | _ => none) = some q := hq
    split at hq
    · rename_i s i
      obtain ⟨t, x⟩ := s
      obtain ⟨u, i⟩ := i
      obtain ⟨e, h⟩ := ga_cond_inv hq
      have e1 : t = 2 := ga_beq (am_and e).1
      have e2 : u = 0 := ga_beq (am_and e).2
      subst e1; subst e2
      obtain ⟨g1, g2, g3⟩ := ga_ck_inv h
      cases g3
      exact am_p_chr hX hroom hSx hl g1 g2
    · cases hq
  · cases (show (inst, na, rc, rt) = (true, 3, 999, (0 : Int)) from hps)
    replace hq : (match (generalizing := false) vs with
      | [s, c, i] => bif Nat.beq s.1 2 && Nat.beq c.1 0 && Nat.beq i.1 0 then (if 0 ≤ c.2 ∧ c.2 < 128 ∧ 0 ≤ i.2 then some (am_idx s.2 c.2 i.2, σ) else none) else none
      | _ => none) = some q := hq
    split at hq
    · rename_i s c i
      obtain ⟨t, x⟩ := s
      obtain ⟨u, c⟩ := c
      obtain ⟨w, i⟩ := i
      obtain ⟨e, h⟩ := ga_cond_inv hq
      obtain ⟨e, e3⟩ := am_and e
      have e1 : t = 2 := ga_beq (am_and e).1
      have e2 : u = 0 := ga_beq (am_and e).2
      have e3 : w = 0 := ga_beq e3
      subst e1; subst e2; subst e3
      split at h
      · rename_i hc
        cases h
        exact am_p_idx hX hroom hSx hl hc.1 hc.2.1 hc.2.2
      · cases h
    · cases hq
  · cases (show (inst, na, rc, rt) = (true, 3, 999, (2 : Int)) from hps)
    replace hq : (match (generalizing := false) vs with
      | [s, a, b] => bif Nat.beq s.1 2 && Nat.beq a.1 0 && Nat.beq b.1 0 then (if 0 ≤ s.2 ∧ s.2 < 1000 ∧ 0 ≤ a.2 ∧ a.2 < b.2 ∧ b.2 ≤ am_len s.2 ∧ b.2 - a.2 < 12 ∧ b.2 < 900 ∧ 0 ≤ σ fX_alloc 0 0 then some (s.2 + 1000 * a.2 + 1000000 * (b.2 + 1), ga_up σ fX_alloc 0 0 (σ fX_alloc 0 0 + 1)) else none) else none
      | _ => none) = some q := hq
    split at hq
    · rename_i s a b
      obtain ⟨t, x⟩ := s
      obtain ⟨u, a⟩ := a
      obtain ⟨w, b⟩ := b
      obtain ⟨e, h⟩ := ga_cond_inv hq
      obtain ⟨e, e3⟩ := am_and e
      have e1 : t = 2 := ga_beq (am_and e).1
      have e2 : u = 0 := ga_beq (am_and e).2
      have e3 : w = 0 := ga_beq e3
      subst e1; subst e2; subst e3
      split at h
      · rename_i hc
        cases h
        obtain ⟨y1, y2, y3, y4, y5, y6, y7, y8⟩ := hc
        exact am_p_sub hT hX hroom hSx hl y1 y2 y3 y4 y5 y6 y7 y8
      · cases h
    · cases hq
  · cases (show (inst, na, rc, rt) = (false, 5, 0, (-1 : Int)) from hps)
    replace hq : (match (generalizing := false) vs with
      | [a, sp, b, dp, len] => bif Nat.blt 2 a.1 && Nat.blt 2 b.1 && Nat.beq sp.1 0 && Nat.beq dp.1 0 && Nat.beq len.1 0 && !(Nat.beq a.1 b.1) && Nat.blt (am_ac (a.1 - 3)).1 4 && !(Nat.beq (am_ac (a.1 - 3)).1 2) && Nat.beq (am_ac (a.1 - 3)).1 (am_ac (b.1 - 3)).1 then
        ga_obj am_G (a.1 - 3) a.2 (fun n => ga_obj am_G (b.1 - 3) b.2 (fun m => am_cpy (am_ac (a.1 - 3)) (am_ac (b.1 - 3)) n sp.2 m dp.2 len.2 σ)) else none
      | _ => none) = some q := hq
    split at hq
    · rename_i a sp b dp len
      obtain ⟨c1, c2, n, m, e1, e2, e3, e4, e5, y1, y2, y3, y4, y5, y6, y7, y8, y9, y10, y11, rfl⟩ := am_cpy_inv hq
      rw [e1, e2, e3, e4, e5]
      exact am_p_cpy hT hX hroom hl y2 y3 y4 y1 y5 y6 y7 y8 y9 y10 y11
    · cases hq
  · cases (show (inst, na, rc, rt) = (false, 2, 0, (0 : Int)) from hps)
    replace hq : (match (generalizing := false) vs with
      | [a, b] => bif Nat.beq a.1 0 && Nat.beq b.1 0 then some (if a.2 < b.2 then b.2 else a.2, σ) else none
      | _ => none) = some q := hq
    split at hq
    · rename_i a b
      obtain ⟨t, a⟩ := a
      obtain ⟨u, b⟩ := b
      obtain ⟨e, h⟩ := ga_cond_inv hq
      have e1 : t = 0 := ga_beq (am_and e).1
      have e2 : u = 0 := ga_beq (am_and e).2
      subst e1; subst e2
      cases h
      exact am_p_max hX hroom hl
    · cases hq
  · cases (show (inst, na, rc, rt) = (false, 2, 0, (0 : Int)) from hps)
    replace hq : (match (generalizing := false) vs with
      | [a, b] => bif Nat.beq a.1 0 && Nat.beq b.1 0 then some (if a.2 < b.2 then a.2 else b.2, σ) else none
      | _ => none) = some q := hq
    split at hq
    · rename_i a b
      obtain ⟨t, a⟩ := a
      obtain ⟨u, b⟩ := b
      obtain ⟨e, h⟩ := ga_cond_inv hq
      have e1 : t = 0 := ga_beq (am_and e).1
      have e2 : u = 0 := ga_beq (am_and e).2
      subst e1; subst e2
      cases h
      exact am_p_min hX hroom hl
    · cases hq
  · cases (show (inst, na, rc, rt) = (false, 1, 0, (0 : Int)) from hps)
    replace hq : (match (generalizing := false) vs with
      | [a] => bif Nat.beq a.1 0 then some (if a.2 < 0 then w32 (-a.2) else a.2, σ) else none
      | _ => none) = some q := hq
    split at hq
    · rename_i a
      obtain ⟨t, a⟩ := a
      obtain ⟨e, h⟩ := ga_cond_inv hq
      have e1 : t = 0 := ga_beq e
      subst e1
      cases h
      exact am_p_abs hX hroom hl
    · cases hq
  · cases (show (inst, na, rc, rt) = (true, 1, 8, (0 : Int)) from hps)
    replace hq : (match (generalizing := false) vs with
      | [a] => bif Nat.beq a.1 11 then ga_nn a.2 (some (a.2, σ)) else none
      | _ => none) = some q := hq
    split at hq
    · rename_i a
      obtain ⟨t, a⟩ := a
      obtain ⟨e, h⟩ := ga_cond_inv hq
      have e1 : t = 11 := ga_beq e
      subst e1
      obtain ⟨g1, g2⟩ := ga_nn_inv h
      cases g2
      exact am_p_ord h8 hX hroom hSx hl g1
    · cases hq
end

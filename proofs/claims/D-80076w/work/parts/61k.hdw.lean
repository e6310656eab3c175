/-! the heap holds the first store: the world's stage -/
theorem gk_s0_fc : (List.range 10).all (fun c => (List.range 170).all (fun k => !(Nat.beq (am_fc c k).1 0) || !([fW_defined, fW_rule, fT_all, fT_kinds, fR_verb, fR_inner, fR_rule, fR_draft].contains (am_fc c k).2.1))) = true := by decide +kernel
theorem gk_s0_f {c k : Nat} (hc : c < 10) (hk : k < 170) (h0 : (am_fc c k).1 = 0) (n : Int) : gk_s0 (am_fc c k).2.1 n 0 = 0 := by
  have h := List.all_eq_true.mp (List.all_eq_true.mp gk_s0_fc c (List.mem_range.mpr hc)) k (List.mem_range.mpr hk)
  rw [h0] at h
  refine gk_s0_z ?_ n 0
  cases z : [fW_defined, fW_rule, fT_all, fT_kinds, fR_verb, fR_inner, fR_rule, fR_draft].contains (am_fc c k).2.1 with
  | false => rfl
  | true => rw [z] at h; cases h
theorem gk_s0_ac : (List.range 179).all (fun c => Nat.ble 4 (am_ac c).1 || !([fW_defined, fW_rule, fT_all, fT_kinds, fR_verb, fR_inner, fR_rule, fR_draft].contains (am_ac c).2.2.2.1)) = true := by decide +kernel
theorem gk_s0_a {c : Nat} (hc : c < 179) (h0 : (am_ac c).1 < 4) (n i : Int) : gk_s0 (am_ac c).2.2.2.1 n i = 0 := by
  have h := List.all_eq_true.mp gk_s0_ac c (List.mem_range.mpr hc)
  refine gk_s0_z ?_ n i
  cases z : [fW_defined, fW_rule, fT_all, fT_kinds, fR_verb, fR_inner, fR_rule, fR_draft].contains (am_ac c).2.2.2.1 with
  | false => rfl
  | true =>
    rw [z] at h
    rcases Bool.or_eq_true_iff.mp h with y | y
    · have := Nat.le_of_ble_eq_true y
      omega
    · cases y
/-- a number of the lists: arrays of numbers are of number classes, and there is one -/
def gk_ckS (L : List Nat) (r ci : Nat) (its : List gk_it) : Bool := its.all (fun t => Nat.blt ((am_fc ci (gk_k t)).1 - 1003) 178 && (Nat.ble 4 (gk_e t) || Nat.blt (am_ac ((am_fc ci (gk_k t)).1 - 1003)).1 4) && (Nat.blt (gk_e t) 7 || (Nat.blt (am_ac ((am_fc ci (gk_k t)).1 - 1002)).1 4 && Nat.ble (gk_n t) (gk_cnt L r ((am_fc ci (gk_k t)).1 - 1002)))))
theorem gk_ckS_w : gk_ckS [1] 48 1 it_wld = true ∧ gk_ckS [1] 48 2 it_wds = true := by decide +kernel
/-- the classes to which an object's fields refer -/
def gk_ckC (L : List Nat) (r c N m : Nat) (sg : Bool) : Bool := (List.range N).all (fun k => Nat.blt (am_fc c k).1 1013 || (Nat.beq (gk_cnt L r ((am_fc c k).1 - 1003)) m && (sg || !(am_sing ((am_fc c k).1 - 1003))) && (sg || Nat.beq (gk_ldl.getD ((am_fc c k).1 - 1013) (0, 0, 0)).2.2 0)))
theorem gk_ckC_w : gk_ckC [1] 48 1 47 1 true = true ∧ gk_ckC [1] 48 2 9 1 true = true ∧ gk_ckC [1] 48 6 11 48 false = true := by decide +kernel
theorem gk_ckC_1 {L : List Nat} {r c N : Nat} (h : gk_ckC L r c N 1 true = true) : ∀ k c', k < N → (am_fc c k).1 = 1003 + c' → 10 ≤ c' → 0 < gk_cnt L r c' ∧ (am_sing c' = true → (0 : Nat) = 0) ∧ 0 * (gk_ldl.getD (c' - 10) (0, 0, 0)).2.2 = 0 := by
  intro k c' hk he h10
  have ck := List.all_eq_true.mp h k (List.mem_range.mpr hk)
  rw [he] at ck
  rcases Bool.or_eq_true_iff.mp ck with z | z
  · have := Nat.le_of_ble_eq_true z
    omega
  · obtain ⟨z1, _⟩ := Bool.and_eq_true_iff.mp z
    obtain ⟨z2, _⟩ := Bool.and_eq_true_iff.mp z1
    have := Nat.eq_of_beq_eq_true z2
    rw [show 1003 + c' - 1003 = c' by omega] at this
    exact ⟨by omega, fun _ => rfl, Nat.zero_mul _⟩
theorem gk_ckC_n {L : List Nat} {r c N m n : Nat} (h : gk_ckC L r c N m false = true) (hn : n < m) : ∀ k c', k < N → (am_fc c k).1 = 1003 + c' → 10 ≤ c' → n < gk_cnt L r c' ∧ (am_sing c' = true → n = 0) ∧ n * (gk_ldl.getD (c' - 10) (0, 0, 0)).2.2 = 0 := by
  intro k c' hk he h10
  have ck := List.all_eq_true.mp h k (List.mem_range.mpr hk)
  rw [he] at ck
  rcases Bool.or_eq_true_iff.mp ck with z | z
  · have := Nat.le_of_ble_eq_true z
    omega
  · obtain ⟨z1, z3⟩ := Bool.and_eq_true_iff.mp z
    obtain ⟨z2, z4⟩ := Bool.and_eq_true_iff.mp z1
    have e1 := Nat.eq_of_beq_eq_true z2
    rw [show 1003 + c' - 1003 = c' by omega] at e1 z4
    rw [show 1003 + c' - 1013 = c' - 10 by omega] at z3
    have e3 : (gk_ldl.getD (c' - 10) (0, 0, 0)).2.2 = 0 := Nat.eq_of_beq_eq_true z3
    refine ⟨by omega, fun y => ?_, by rw [e3]; exact Nat.mul_zero _⟩
    rw [y] at z4
    cases z4

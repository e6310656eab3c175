/-! the act of a relation that holds -/
section
variable {σ τ : ga_S} {f : Int} {N : Nat}
/-- v stands in the way of x and y -/
def rcB (R : Int → Int) (a b : Int) (x y v : Int) : Bool := (decide (a ≠ 0) && decide (v ≠ x) && decide (R (24 * v + y) ≠ 0)) || (decide (b ≠ 0) && decide (v ≠ y) && decide (R (24 * x + v) ≠ 0))
theorem k_rel137 {ρ : ga_S} {r n1 n2 i j x y O : Int} (hO : ρ fW_objects 0 0 = O) (hO2 : O ≤ 24) (hr : 0 ≤ r ∧ r < 6) (hx : 0 ≤ x ∧ x < 24) (hy : 0 ≤ y ∧ y < 24) (hj : 0 ≤ j ∧ j < 5000) (d : Nat) : ∀ v, 0 ≤ v → r_relates_137 d ρ r n1 n2 i j x y v = (if (rg v O).any (rcB (ρ fW_related r) (ρ fW_oneA 0 r) (ρ fW_oneB 0 r) x y) = true then (c_r_otherwise d ρ 0).bind fun q5 => ga_01 q5.1 (some (q5.1, q5.2)) else r_relates_107 d (ga_up ρ fW_related r (24 * x + y) 1) r n1 n2 i (j + 1)) := by
  refine rg_ind (n := O) ?_ ?_
  · intro v h h0
    rw [e_r_relates_137, hO, if_neg (by omega), ck_ok _ hr, nn_ok _ hr.1, w32_ok (x := 24 * x) (by omega), w32_ok (x := 24 * x + y) (by omega), ck_ok _ (by omega), w32_ok (x := j + 1) (by omega), rg_n h, List.any_nil, if_neg (by decide)]
  · intro v h ih h0
    have yes : r_relates_229 d ρ r n1 n2 i j x y v = (c_r_otherwise d ρ 0).bind fun q5 => ga_01 q5.1 (some (q5.1, q5.2)) := by
      rw [e_r_relates_229, e_r_relates_234, if_neg (by decide)]
    have no : r_relates_233 d ρ r n1 n2 i j x y v = r_relates_137 d ρ r n1 n2 i j x y (v + 1) := by
      rw [e_r_relates_233, e_r_relates_234, if_pos rfl, w32_ok (x := v + 1) (by omega)]
    have sec : r_relates_189 d ρ r n1 n2 i j x y v = (if (decide (ρ fW_oneB 0 r ≠ 0) && decide (v ≠ y) && decide (ρ fW_related r (24 * x + v) ≠ 0)) = true then (c_r_otherwise d ρ 0).bind fun q5 => ga_01 q5.1 (some (q5.1, q5.2)) else r_relates_137 d ρ r n1 n2 i j x y (v + 1)) := by
      rw [e_r_relates_189, ck_ok _ hr]
      by_cases c : ρ fW_oneB 0 r = 0
      · rw [if_pos c, no, if_neg (by simp [c])]
      · rw [if_neg c]
        by_cases c2 : v = y
        · rw [if_pos c2, no, if_neg (by simp [c2])]
        · rw [if_neg c2, ck_ok _ hr, nn_ok _ hr.1, w32_ok (x := 24 * x) (by omega), w32_ok (x := 24 * x + v) (by omega), ck_ok _ (by omega)]
          by_cases c3 : ρ fW_related r (24 * x + v) = 0
          · rw [if_pos c3, no, if_neg (by simp [c3])]
          · rw [if_neg c3, yes, if_pos (by simp [c, c2, c3])]
    have sec2 : r_relates_189 d ρ r n1 n2 i j x y v = (if (rg v O).any (rcB (ρ fW_related r) (ρ fW_oneA 0 r) (ρ fW_oneB 0 r) x y) = true then (c_r_otherwise d ρ 0).bind fun q5 => ga_01 q5.1 (some (q5.1, q5.2)) else r_relates_107 d (ga_up ρ fW_related r (24 * x + y) 1) r n1 n2 i (j + 1)) ∨ (decide (ρ fW_oneA 0 r ≠ 0) && decide (v ≠ x) && decide (ρ fW_related r (24 * v + y) ≠ 0)) = true := by
      cases q : (decide (ρ fW_oneA 0 r ≠ 0) && decide (v ≠ x) && decide (ρ fW_related r (24 * v + y) ≠ 0)) with
      | true => exact Or.inr rfl
      | false =>
        left
        rw [sec, rg_s h, List.any_cons]
        have e : rcB (ρ fW_related r) (ρ fW_oneA 0 r) (ρ fW_oneB 0 r) x y v = (decide (ρ fW_oneB 0 r ≠ 0) && decide (v ≠ y) && decide (ρ fW_related r (24 * x + v) ≠ 0)) := by
          unfold rcB; rw [q, Bool.false_or]
        rw [e]
        cases (decide (ρ fW_oneB 0 r ≠ 0) && decide (v ≠ y) && decide (ρ fW_related r (24 * x + v) ≠ 0)) with
        | true => rw [Bool.true_or, if_pos rfl, if_pos rfl]
        | false => rw [Bool.false_or, if_neg (by decide)]; exact ih (by omega)
    rw [e_r_relates_137, hO, if_pos h, ck_ok _ hr]
    by_cases c : ρ fW_oneA 0 r = 0
    · rw [if_pos c]
      exact sec2.resolve_right (by simp [c])
    · rw [if_neg c]
      by_cases c2 : v = x
      · rw [if_pos c2]
        exact sec2.resolve_right (by simp [c2])
      · rw [if_neg c2, ck_ok _ hr, nn_ok _ hr.1, w32_ok (x := 24 * v) (by omega), w32_ok (x := 24 * v + y) (by omega), ck_ok _ (by omega)]
        by_cases c3 : ρ fW_related r (24 * v + y) = 0
        · rw [if_pos c3]
          exact sec2.resolve_right (by simp [c3])
        · rw [if_neg c3, yes, rg_s h, List.any_cons]
          have e : rcB (ρ fW_related r) (ρ fW_oneA 0 r) (ρ fW_oneB 0 r) x y v = true := by
            unfold rcB; simp [c, c2, c3]
          rw [e, Bool.true_or, if_pos rfl]
theorem m_relate_l {υ : ga_S} {r x y O a b : Int} {R : Int → Int} (hO : υ fM_objects 0 0 = O) (hO2 : O ≤ 24) (hr : 0 ≤ r ∧ r < 6) (hx : 0 ≤ x ∧ x < 24) (hy : 0 ≤ y ∧ y < 24) (ha : υ fM_firstOne 0 r = a) (hb : υ fM_secondOne 0 r = b) (hR : ∀ i, 0 ≤ i → i < 576 → υ fM_related 0 (576 * r + i) = R i) (d : Nat) : ∀ v, 0 ≤ v → m_relate_3 d υ r x y v = (if (rg v O).any (rcB R a b x y) = true then some (0, υ) else some (1, ga_up υ fM_related 0 (576 * r + (24 * x + y)) 1)) := by
  refine rg_ind (n := O) ?_ ?_
  · intro v h h0
    rw [e_m_relate_3, hO, if_neg (by omega), w32_ok (x := 576 * r) (by omega), w32_ok (x := 24 * x) (by omega), w32_ok (x := 576 * r + 24 * x) (by omega), w32_ok (x := 576 * r + 24 * x + y) (by omega), ck_ok _ (by omega), rg_n h, List.any_nil, if_neg (by decide), show 576 * r + 24 * x + y = 576 * r + (24 * x + y) by omega]
  · intro v h ih h0
    have no : m_relate_86 d υ r x y v = m_relate_3 d υ r x y (v + 1) := by
      rw [e_m_relate_86, w32_ok (x := v + 1) (by omega)]
    have sec : m_relate_48 d υ r x y v = (if (decide (b ≠ 0) && decide (v ≠ y) && decide (R (24 * x + v) ≠ 0)) = true then some (0, υ) else m_relate_3 d υ r x y (v + 1)) := by
      rw [e_m_relate_48, ck_ok _ hr, hb]
      by_cases c : b = 0
      · rw [if_pos c, no, if_neg (by simp [c])]
      · rw [if_neg c]
        by_cases c2 : v = y
        · rw [if_pos c2, no, if_neg (by simp [c2])]
        · rw [if_neg c2, w32_ok (x := 576 * r) (by omega), w32_ok (x := 24 * x) (by omega), w32_ok (x := 576 * r + 24 * x) (by omega), w32_ok (x := 576 * r + 24 * x + v) (by omega), ck_ok _ (by omega), show 576 * r + 24 * x + v = 576 * r + (24 * x + v) by omega, hR _ (by omega) (by omega)]
          by_cases c3 : R (24 * x + v) = 0
          · rw [if_pos c3, no, if_neg (by simp [c3])]
          · rw [if_neg c3, if_pos (by simp [c, c2, c3])]
    have sec2 : m_relate_48 d υ r x y v = (if (rg v O).any (rcB R a b x y) = true then some (0, υ) else some (1, ga_up υ fM_related 0 (576 * r + (24 * x + y)) 1)) ∨ (decide (a ≠ 0) && decide (v ≠ x) && decide (R (24 * v + y) ≠ 0)) = true := by
      cases q : (decide (a ≠ 0) && decide (v ≠ x) && decide (R (24 * v + y) ≠ 0)) with
      | true => exact Or.inr rfl
      | false =>
        left
        rw [sec, rg_s h, List.any_cons]
        have e : rcB R a b x y v = (decide (b ≠ 0) && decide (v ≠ y) && decide (R (24 * x + v) ≠ 0)) := by
          unfold rcB; rw [q, Bool.false_or]
        rw [e]
        cases (decide (b ≠ 0) && decide (v ≠ y) && decide (R (24 * x + v) ≠ 0)) with
        | true => rw [Bool.true_or, if_pos rfl, if_pos rfl]
        | false => rw [Bool.false_or, if_neg (by decide)]; exact ih (by omega)
    rw [e_m_relate_3, hO, if_pos h, ck_ok _ hr, ha]
    by_cases c : a = 0
    · rw [if_pos c]
      exact sec2.resolve_right (by simp [c])
    · rw [if_neg c]
      by_cases c2 : v = x
      · rw [if_pos c2]
        exact sec2.resolve_right (by simp [c2])
      · rw [if_neg c2, w32_ok (x := 576 * r) (by omega), w32_ok (x := 24 * v) (by omega), w32_ok (x := 576 * r + 24 * v) (by omega), w32_ok (x := 576 * r + 24 * v + y) (by omega), ck_ok _ (by omega), show 576 * r + 24 * v + y = 576 * r + (24 * v + y) by omega, hR _ (by omega) (by omega)]
        by_cases c3 : R (24 * v + y) = 0
        · rw [if_pos c3]
          exact sec2.resolve_right (by simp [c3])
        · rw [if_neg c3, rg_s h, List.any_cons]
          have e : rcB R a b x y v = true := by
            unfold rcB; simp [c, c2, c3]
          rw [e, Bool.true_or, if_pos rfl]
/-- one pair is related -/
theorem RWe_set {ρ υ ρ' υ' : ga_S} (h : RWe ρ υ) {r i : Int} (hr : 0 ≤ r ∧ r < ρ fW_relations 0 0) (hi : 0 ≤ i ∧ i < 576) (e1 : ρ' = ga_up ρ fW_related r i 1) (e2 : υ' = ga_up υ fM_related 0 (576 * r + i) 1) : RWe ρ' υ' := by
  have f1 : fr [fW_related] ρ ρ' := by rw [e1]; exact fr_u (by decide)
  have f2 : fr [fM_related] υ υ' := by rw [e2]; exact fr_u (by decide)
  obtain ⟨q1, q2⟩ := h
  unfold RWe
  rw [f1 fW_relations (by decide), f1 fW_oneA (by decide), f1 fW_oneB (by decide), f2 fM_firstOne (by decide), f2 fM_secondOne (by decide)]
  refine ⟨fun r' z0 z1 => ?_, fun j z0 z1 => ?_⟩
  · have w := q1 r' z0 z1
    refine ⟨w.1, w.2.1, w.2.2.1, w.2.2.2.1, fun j j0 j1 => ?_⟩
    have w2 := w.2.2.2.2 j j0 j1
    rw [e1, e2, up_nat, up_at]
    by_cases c : r' = r ∧ j = i
    · rw [if_pos c, if_pos (by rw [c.1, c.2])]; exact ⟨Or.inr rfl, rfl⟩
    · rw [if_neg c, if_neg (by omega)]; exact w2
  · rw [e2, up_at, if_neg (by omega)]; exact q2 j z0 z1
theorem liR_r (E : E0 σ τ f N) {kind to : Int} : ∀ (n : Nat) (k : Int) (L : List Int), liR σ kind to n k = some L → ∀ x, x ∈ L → 0 ≤ x ∧ x < σ fW_objects 0 0 := by
  intro n
  induction n with
  | zero => intro k L h; cases h
  | succ n ih =>
    intro k L h x hx
    have h' : (if sgO σ kind to k = true then (if sgE σ to k < to then (liR σ kind to n (sgN σ to (sgE σ to k))).map (fun L => obV σ k (sgE σ to k) :: L) else some [obV σ k (sgE σ to k)]) else none) = some L := h
    by_cases c : sgO σ kind to k = true
    · rw [if_pos c] at h'
      unfold sgO at c
      have c1 := of_decide_eq_true ((Bool.and_eq_true _ _).mp c).1
      have ob := (obV_r E k (sgE σ to k)).resolve_left c1
      by_cases c2 : sgE σ to k < to
      · rw [if_pos c2] at h'
        cases q : liR σ kind to n (sgN σ to (sgE σ to k)) with
        | none => rw [q] at h'; cases h'
        | some L' =>
          rw [q] at h'
          have e : L = obV σ k (sgE σ to k) :: L' := by injection h' with h'; exact h'.symm
          rw [e] at hx
          rcases List.mem_cons.mp hx with z | z
          · rw [z]; exact ob
          · exact ih _ L' q x z
      · rw [if_neg c2] at h'
        have e : L = [obV σ k (sgE σ to k)] := by injection h' with h'; exact h'.symm
        rw [e] at hx
        rw [List.mem_singleton.mp hx]; exact ob
    · rw [if_neg c] at h'; cases h'
end

/-! the tables are right: classes -/
theorem am_and {a b : Bool} (h : (a && b) = true) : a = true ∧ b = true := Bool.and_eq_true_iff.mp h
theorem am_or {a b : Bool} (h : (a || b) = true) : a = true ∨ b = true := Bool.or_eq_true_iff.mp h
theorem am_rng {n : Nat} {f : Nat → Bool} (h : (List.range n).all f = true) {i : Nat} (hi : i < n) : f i = true := List.all_eq_true.mp h i (List.mem_range.mpr hi)
theorem am_not {b : Bool} (h : (!b) = true) : b = false := by cases b <;> simp_all
theorem am_nbeq {a b : Nat} (h : (!(Nat.beq a b)) = true) : a ≠ b := by
  intro e
  subst e
  rw [Nat.beq_refl] at h
  cases h
theorem am_nblt {a b : Nat} (h : Nat.blt a b = false) : ¬ a < b := by
  intro e
  rw [show Nat.blt a b = true from Nat.ble_eq_true_of_le e] at h
  cases h
theorem am_cls {c : Nat} {q : vw_C} (h : am_cl[c]? = some q) : am_ckC c q = true ∧ am_nms q = true := by
  have hc : c < 10 := (List.getElem?_eq_some_iff.mp h).1
  match c, hc with
  | 0, _ => have := am_ckC_x; rw [h] at this; exact am_and this
  | 1, _ => have := am_ckC_w; rw [h] at this; exact am_and this
  | 2, _ => have := am_ckC_d; rw [h] at this; exact am_and this
  | 3, _ => have := am_ckC_t; rw [h] at this; exact am_and this
  | 4, _ => have := am_ckC_r; rw [h] at this; exact am_and this
  | 5, _ => have := am_ckC_u; rw [h] at this; exact am_and this
  | 6, _ => have := am_ckC_q; rw [h] at this; exact am_and this
  | 7, _ => have := am_ckC_s; rw [h] at this; exact am_and this
  | 8, _ => have := am_ckC_k; rw [h] at this; exact am_and this
  | 9, _ => have := am_ckC_m; rw [h] at this; exact am_and this
theorem am_ac_hi {c : Nat} (h : 179 ≤ c) : (am_ac c).1 = 9 := by
  unfold am_ac
  have : Nat.blt c 179 = false := by
    cases e : Nat.blt c 179 with
    | false => rfl
    | true => have := ga_blt e; omega
  rw [this]
  rfl
theorem am_fld {c k : Nat} {q : vw_C} (h : am_cl[c]? = some q) (hk : k < q.2.2) : u_lay q.1 q.2.1 k ∈ ga_gw ∧ (q.2.1 k).1 = q.1 ∧ ∃ ty, parseFieldDescriptor (q.2.1 k).2.2.1 = some ty ∧ ((am_fc c k).1 < 999 → c ≠ 8 ∧ (q.2.1 k).2.2.2 = false ∧
      (((am_fc c k).1 = 0 ∧ (ty = .int ∧ (am_fc c k).2.2 ≠ 1 ∨ ty = .boolean ∧ (am_fc c k).2.2 = 1)) ∨ (3 ≤ (am_fc c k).1 ∧ ∃ n, ty = .object n)) ∧ am_inv (am_fc c k).2.1 = (c, k + 1) ∧ (am_fc c k).2.1 ≠ 330) := by
  have hF := am_rng (am_cls h).1 hk
  unfold am_ckF at hF
  obtain ⟨hF, h4⟩ := am_and hF
  obtain ⟨hF, h3⟩ := am_and hF
  obtain ⟨h1, h2⟩ := am_and hF
  refine ⟨am_at_g h1 h2, of_decide_eq_true h3, ?_⟩
  cases hp : parseFieldDescriptor (q.2.1 k).2.2.1 with
  | none => rw [hp] at h4; cases h4
  | some ty =>
    rw [hp] at h4
    refine ⟨ty, rfl, fun hlt => ?_⟩
    dsimp only at h4
    rw [show Nat.blt (am_fc c k).1 999 = true from Nat.ble_eq_true_of_le hlt] at h4
    obtain ⟨h4, k5⟩ := am_and (show (_ && _) = true from h4)
    obtain ⟨h4, k4⟩ := am_and h4
    obtain ⟨h4, k3⟩ := am_and h4
    obtain ⟨k1, k2⟩ := am_and h4
    refine ⟨am_nbeq k1, am_not k2, ?_, of_decide_eq_true k4, am_nbeq k5⟩
    rcases am_or k3 with z | z
    · obtain ⟨z1, z2⟩ := am_and z
      refine Or.inl ⟨ga_beq z1, ?_⟩
      rcases am_or z2 with y | y
      · obtain ⟨y1, y2⟩ := am_and y
        exact Or.inl ⟨of_decide_eq_true y1, of_decide_eq_true y2⟩
      · obtain ⟨y1, y2⟩ := am_and y
        exact Or.inr ⟨of_decide_eq_true y1, of_decide_eq_true y2⟩
    · obtain ⟨z1, z2⟩ := am_and z
      refine Or.inr ⟨Nat.le_of_ble_eq_true z1, ?_⟩
      split at z2
      · exact ⟨_, rfl⟩
      · cases z2
theorem am_arr {c : Nat} (hc : c < 179) (h : am_cl[c]? = none) : 0 ≤ (am_ac c).2.1 ∧ (am_ac c).2.1 < 2147483648 ∧ c ≠ 8 ∧ ((am_ac c).1 < 3 → (am_ac c).2.2.1 = 0) ∧ ((am_ac c).1 = 3 → (am_ac c).2.2.1 = 1) ∧ ((am_ac c).1 = 4 → 3 ≤ (am_ac c).2.2.1 ∧ ((am_ac c).2.2.1 < 999 ∨ 1003 ≤ (am_ac c).2.2.1)) ∧ ((am_ac c).2.2.1 < 999 → am_inv (am_ac c).2.2.2.1 = (c, 0)) ∧ (am_ac c).1 < 5 := by
  have hA := am_rng am_ckA_ok hc
  unfold am_ckA at hA
  rw [h] at hA
  obtain ⟨hA, -⟩ := am_and hA
  dsimp only at hA
  obtain ⟨hA, k8⟩ := am_and hA
  obtain ⟨hA, k7⟩ := am_and hA
  obtain ⟨hA, k6⟩ := am_and hA
  obtain ⟨hA, k5⟩ := am_and hA
  obtain ⟨hA, k4⟩ := am_and hA
  obtain ⟨hA, k3⟩ := am_and hA
  obtain ⟨k1, k2⟩ := am_and hA
  refine ⟨of_decide_eq_true k1, of_decide_eq_true k2, am_nbeq k3, fun q => ?_, fun q => ?_, fun q => ?_, fun q => ?_, ga_blt k8⟩
  · rcases am_or k4 with z | z
    · exact absurd q (am_nblt (am_not z))
    · exact ga_beq z
  · rcases am_or k5 with z | z
    · exact absurd q (am_nbeq z)
    · exact ga_beq z
  · rcases am_or k6 with z | z
    · exact absurd q (am_nbeq z)
    · obtain ⟨z1, z2⟩ := am_and z
      refine ⟨Nat.le_of_ble_eq_true z1, ?_⟩
      rcases am_or z2 with y | y
      · exact Or.inl (ga_blt y)
      · exact Or.inr (Nat.le_of_ble_eq_true y)
  · rcases am_or k7 with z | z
    · exact absurd q (am_nblt (am_not z))
    · exact of_decide_eq_true z
theorem am_TB {E : ga_E} {cnt : Nat → Nat} {SS : Heap → Nat → Int → Prop} (hin : ∀ c n c' n' : Nat, n < cnt c → n' < cnt c' → E.1 c n = E.1 c' n' → c = c' ∧ n = n') (hcnt : ∀ c, 179 ≤ c → cnt c = 0) : ga_TB (E, cnt, am_G, SS, am_cl, 8) := by
  have hlo : ∀ c, 0 < cnt c → c < 179 := fun c h => by
    by_cases h2 : c < 179
    · exact h2
    · rw [hcnt c (by omega)] at h; omega
  refine ⟨hin, ⟨am_inv, fun c q k h1 h2 h3 => ?_, fun c h1 h2 h3 => ?_⟩, fun c C T N h => ?_, fun c h1 h2 => ?_, fun c h => ?_, fun c h1 h2 => ?_⟩
  · obtain ⟨-, -, ty, -, h⟩ := am_fld h1 h2
    exact (h h3).2.2.2
  · have hA := am_rng am_ckA_ok (hlo c h2)
    have h4 := am_arr (hlo c h2) h1
    refine ⟨h4.2.2.2.2.2.2.1 h3, ?_⟩
    unfold am_ckA at hA
    rcases am_or (am_and hA).2 with z | z
    · rcases am_or z with z | z
      · exact absurd h4.2.2.2.2.2.2.2 (am_nblt (am_not z))
      · exact absurd h3 (am_nblt (am_not z))
    · exact am_nbeq z
  · refine ⟨fun w hw => ?_, fun a ha b hb hab => ?_, ?_⟩
    · unfold u_ws at hw
      obtain ⟨k, hk, rfl⟩ := List.mem_map.mp hw
      exact List.mem_append_left _ (am_fld h (List.mem_range.mp hk)).1
    · have hn : ∀ a b, a < N → b < a → (T a).2.1 ≠ (T b).2.1 := fun a b ha hb => of_decide_eq_true (am_rng (am_rng (am_cls h).2 ha) hb)
      rcases Nat.lt_or_gt_of_ne hab with z | z
      · exact fun e => hn b a hb z e.symm
      · exact hn a b ha z
    · refine ⟨fun k => (parseFieldDescriptor (T k).2.2.1).getD .int, fun k hk => ?_⟩
      obtain ⟨-, h2, ty, h3, h4⟩ := am_fld h hk
      have h3 : parseFieldDescriptor (T k).2.2.1 = some ty := h3
      have he : (parseFieldDescriptor (T k).2.2.1).getD .int = ty := by rw [h3]; rfl
      refine ⟨?_, h2, fun hlt => ?_⟩
      · show parseFieldDescriptor (T k).2.2.1 = some ((parseFieldDescriptor (T k).2.2.1).getD .int)
        rw [he, h3]
      · obtain ⟨a, b, c, -⟩ := h4 hlt
        refine ⟨a, b, ?_⟩
        show ((am_fc _ k).1 = 0 ∧ ((parseFieldDescriptor (T k).2.2.1).getD .int = .int ∧ (am_fc _ k).2.2 ≠ 1 ∨ (parseFieldDescriptor (T k).2.2.1).getD .int = .boolean ∧ (am_fc _ k).2.2 = 1)) ∨ (3 ≤ (am_fc _ k).1 ∧ ∃ n, (parseFieldDescriptor (T k).2.2.1).getD .int = .object n)
        rw [he]
        exact c
  · obtain ⟨a, b, c, d, e, f, -⟩ := am_arr (hlo c h2) h1
    exact ⟨a, b, c, d, e, f⟩
  · by_cases h2 : c < 179
    · have hA := am_rng am_ckA_ok h2
      unfold am_ckA at hA
      cases e : am_cl[c]? with
      | none => exact absurd e h
      | some q =>
        rw [e] at hA
        exact ga_beq (am_and hA).1
    · exact am_ac_hi (by omega)
  · by_cases h3 : c < 179
    · have hA := am_rng am_ckA_ok h3
      unfold am_ckA at hA
      rcases am_or (am_and hA).2 with z | z
      · rcases am_or z with z | z
        · exact absurd h1 (am_nblt (am_not z))
        · exact absurd h2 (am_nblt (am_not z))
      · exact am_nbeq z
    · have := am_ac_hi (c := c) (by omega)
      have h1 : (am_ac c).1 < 5 := h1
      omega

/-! the tables are right: methods -/
abbrev am_Y (E : ga_E) (cnt : Nat → Nat) (SS : Heap → Nat → Int → Prop) : ga_Y := (E, cnt, am_G, SS, am_cl, 8)
theorem am_any {α : Type} {l : List α} {f : α → Bool} (h : l.any f = true) : ∃ q ∈ l, f q = true := List.any_eq_true.mp h
theorem am_FL_ok {E : ga_E} {cnt : Nat → Nat} {SS : Heap → Nat → Int → Prop} {own : String} {fl : List (Nat × Nat × Nat × Nat)} (hf : fl.all (am_ckFL own) = true) (idx a b : Nat) (h : am_FL fl idx a b = true) : ∃ (C : String) (T : u_T) (N : Nat), (am_Y E cnt SS).2.2.2.2.1[a]? = some (C, T, N) ∧ b < N ∧ (Cond.fieldLink own idx C (T b).2.1 (T b).2.2.1 ∈ ga_tb ∨ ∃ host, Cond.fieldLinkNest own idx C (T b).2.1 (T b).2.2.1 host ∈ ga_tb) := by
  obtain ⟨q, hq, h⟩ := am_any h
  obtain ⟨i', a', b', pos⟩ := q
  obtain ⟨h, h3⟩ := am_and h
  obtain ⟨h1, h2⟩ := am_and h
  have e1 : i' = idx := ga_beq h1
  have e2 : a' = a := ga_beq h2
  have e3 : b' = b := ga_beq h3
  subst e1; subst e2; subst e3
  have hk := List.all_eq_true.mp hf _ hq
  unfold am_ckFL at hk
  dsimp only at hk
  cases hc : am_cl[a']? with
  | none => rw [hc] at hk; cases hk
  | some q =>
    obtain ⟨C, T, N⟩ := q
    rw [hc] at hk
    dsimp only at hk
    obtain ⟨k1, k2⟩ := am_and hk
    refine ⟨C, T, N, rfl, ga_blt k1, ?_⟩
    rcases am_or k2 with z | z
    · obtain ⟨z1, z2⟩ := am_and z
      exact Or.inl (List.mem_append_left _ (am_at_g z1 z2))
    · exact Or.inr ⟨_, List.mem_append_right _ (am_at_n z rfl)⟩
theorem am_GS_ok {own : String} {gs : List (Nat × Nat × Int × Nat)} (hf : gs.all (am_ckGS own) = true) (idx a : Nat) (d : Int) (h : am_GS gs idx a d = true) : am_gsP own idx a d := by
  obtain ⟨q, hq, h⟩ := am_any h
  obtain ⟨i', a', d', pos⟩ := q
  obtain ⟨h, h3⟩ := am_and h
  obtain ⟨h1, h2⟩ := am_and h
  have e1 : i' = idx := ga_beq h1
  have e2 : a' = a := ga_beq h2
  have e3 : d' = d := of_decide_eq_true h3
  subst e1; subst e2; subst e3
  have hk := List.all_eq_true.mp hf _ hq
  unfold am_ckGS at hk
  dsimp only at hk
  obtain ⟨hk, k3⟩ := am_and hk
  obtain ⟨k1, k2⟩ := am_and hk
  refine ⟨ga_beq k1, of_decide_eq_true k2, ?_⟩
  cases hn : am_toks[d'.toNat]? with
  | none => rw [hn] at k3; cases k3
  | some n =>
    rw [hn] at k3
    obtain ⟨z1, z2⟩ := am_and k3
    exact ⟨n, rfl, am_at_g z1 z2⟩
theorem am_LC_ok {own : String} {gs : List (Nat × Nat × Int × Nat)} (hf : gs.all (am_ckLC own) = true) (idx a : Nat) (d : Int) (h : am_GS gs idx a d = true) : am_lcP own idx a d := by
  obtain ⟨q, hq, h⟩ := am_any h
  obtain ⟨i', a', d', pos⟩ := q
  obtain ⟨h, h3⟩ := am_and h
  obtain ⟨h1, h2⟩ := am_and h
  have e1 : i' = idx := ga_beq h1
  have e2 : a' = a := ga_beq h2
  have e3 : d' = d := of_decide_eq_true h3
  subst e1; subst e2; subst e3
  have hk := List.all_eq_true.mp hf _ hq
  unfold am_ckLC at hk
  dsimp only at hk
  cases h0 : Nat.beq a' 0 with
  | true =>
    rw [h0] at hk
    obtain ⟨hk, k4⟩ := am_and (show (_ && _) = true from hk)
    obtain ⟨hk, k3⟩ := am_and hk
    obtain ⟨k1, k2⟩ := am_and hk
    exact Or.inl ⟨ga_beq h0, ⟨of_decide_eq_true k1, of_decide_eq_true k2⟩, am_at_g k3 k4⟩
  | false =>
    rw [h0] at hk
    cases h1 : Nat.beq a' 1 with
    | true =>
      rw [h1] at hk
      obtain ⟨hk, k4⟩ := am_and (show (_ && _) = true from hk)
      obtain ⟨hk, k3⟩ := am_and hk
      obtain ⟨k1, k2⟩ := am_and hk
      exact Or.inr (Or.inl ⟨ga_beq h1, ⟨of_decide_eq_true k1, of_decide_eq_true k2⟩, am_at_g k3 k4⟩)
    | false =>
      rw [h1] at hk
      obtain ⟨k1, k2⟩ := am_and (show (_ && _) = true from hk)
      exact Or.inr (Or.inr ⟨ga_beq k1, of_decide_eq_true k2⟩)
theorem am_ML_ok {E : ga_E} {cnt : Nat → Nat} {SS : Heap → Nat → Int → Prop} {own : String} {ml : List (Nat × Bool × Nat × Nat × Nat × Int × Nat)} (hf : ml.all (am_ckML own) = true) (idx : Nat) (inst : Bool) (j na rc : Nat) (rt : Int) (h : am_ML ml idx inst j na rc rt = true) : ga_mlX (am_Y E cnt SS) am_mi am_tab am_mlP own idx inst j na rc rt := by
  obtain ⟨q, hq, h⟩ := am_any h
  obtain ⟨i', n', j', na', rc', rt', pos⟩ := q
  obtain ⟨h, h6⟩ := am_and h
  obtain ⟨h, h5⟩ := am_and h
  obtain ⟨h, h4⟩ := am_and h
  obtain ⟨h, h3⟩ := am_and h
  obtain ⟨h1, h2⟩ := am_and h
  have e1 : i' = idx := ga_beq h1
  have e2 : n' = inst := beq_iff_eq.mp h2
  have e3 : j' = j := ga_beq h3
  have e4 : na' = na := ga_beq h4
  have e5 : rc' = rc := ga_beq h5
  have e6 : rt' = rt := of_decide_eq_true h6
  subst e1; subst e2; subst e3; subst e4; subst e5; subst e6
  have hk := List.all_eq_true.mp hf _ hq
  unfold am_ckML at hk
  dsimp only at hk
  cases hj : Nat.blt j' 377 with
  | true =>
    rw [hj] at hk
    obtain ⟨hk, k4⟩ := am_and (show (_ && _) = true from hk)
    obtain ⟨hk, k3⟩ := am_and hk
    obtain ⟨k1, k2⟩ := am_and hk
    refine Or.inl ⟨ga_blt hj, ?_, of_decide_eq_true k2, fun hi => ?_, fun hi => ?_, ?_⟩
    · rcases am_or k1 with z | z
      · obtain ⟨z1, z2⟩ := am_and z
        exact Or.inl (am_at_g z1 z2)
      · exact Or.inr ⟨_, am_at_n z rfl⟩
    · subst hi
      obtain ⟨k3, y7⟩ := am_and (show (_ && _) = true from k3)
      obtain ⟨k3, y6⟩ := am_and k3
      obtain ⟨k3, y5⟩ := am_and k3
      obtain ⟨k3, y4⟩ := am_and k3
      obtain ⟨k3, y3⟩ := am_and k3
      obtain ⟨y1, y2⟩ := am_and k3
      refine ⟨Nat.le_of_ble_eq_true y1, am_at_g y2 y3, am_at_g y4 y5, am_nbeq y6, ?_⟩
      cases hc : am_cl[rc']? with
      | none => rw [hc] at y7; cases y7
      | some q =>
        obtain ⟨C, T, N⟩ := q
        rw [hc] at y7
        have : C = (am_mi j').1.cls := of_decide_eq_true y7
        subst this
        exact ⟨T, N, rfl⟩
    · subst hi
      obtain ⟨y1, y2⟩ := am_and (show (_ && _) = true from k3)
      exact am_at_g y1 y2
    · by_cases hr : rt' = -1
      · rw [if_pos hr]
        subst hr
        exact ga_beq k4
      · rw [if_neg hr]
        have : (rt' == -1) = false := beq_eq_false_iff_ne.mpr hr
        rw [this] at k4
        obtain ⟨y1, y2⟩ := am_and (show (_ && _) = true from k4)
        exact ⟨am_nbeq y1, ga_beq y2⟩
  | false =>
    rw [hj] at hk
    obtain ⟨hk, k5⟩ := am_and (show (_ && _) = true from hk)
    obtain ⟨hk, k4⟩ := am_and hk
    obtain ⟨hk, k3⟩ := am_and hk
    obtain ⟨k1, k2⟩ := am_and hk
    exact Or.inr ⟨Nat.le_of_ble_eq_true k1, Nat.le_of_ble_eq_true k1, ga_blt k2, of_decide_eq_true k3, am_at_g k4 k5⟩
theorem am_rd {a b : Nat} {f : Nat → Bool} (h : ((List.range b).drop a).all f = true) {j : Nat} (h1 : a ≤ j) (h2 : j < b) : f j = true := by
  refine List.all_eq_true.mp h j ?_
  refine List.mem_of_getElem? (i := j - a) ?_
  rw [List.getElem?_drop, show a + (j - a) = j by omega, List.getElem?_range h2]
theorem am_ckO_ok {j : Nat} (h : j < 377) : am_ckO j = true := by
  by_cases h1 : j < 48
  · exact am_rd am_ckO_0 (by omega) h1
  by_cases h2 : j < 96
  · exact am_rd am_ckO_48 (by omega) h2
  by_cases h3 : j < 144
  · exact am_rd am_ckO_96 (by omega) h3
  by_cases h4 : j < 192
  · exact am_rd am_ckO_144 (by omega) h4
  by_cases h5 : j < 240
  · exact am_rd am_ckO_192 (by omega) h5
  by_cases h6 : j < 288
  · exact am_rd am_ckO_240 (by omega) h6
  by_cases h7 : j < 336
  · exact am_rd am_ckO_288 (by omega) h7
  exact am_rd am_ckO_336 (by omega) h
/-- what the tables' checks give for a method -/
def am_P (E : ga_E) (cnt : Nat → Nat) (SS : Heap → Nat → Int → Prop) (j : Nat) : Prop := ∀ pc i nx a b c e d, (am_tab j).1 pc = (i, nx, a, b, c, e, d) → i = .nop ∨ ga_crt (am_Y E cnt SS) (am_tab j).2.2.2 (am_mi j).1.cls (ga_mlX (am_Y E cnt SS) am_mi am_tab am_mlP (am_mi j).1.cls) (am_gsP (am_mi j).1.cls) (am_lcP (am_mi j).1.cls) (am_mi j).2.1 i pc nx a b c e d
theorem am_mo_of {E : ga_E} {cnt : Nat → Nat} {SS : Heap → Nat → Int → Prop} (hcw : ∀ j, j < 377 → am_cw j) (hP : ∀ j, j < 377 → am_P E cnt SS j) (j : Nat) (hj : j < 377) : ga_MO (am_Y E cnt SS) am_mi (ga_mlX (am_Y E cnt SS) am_mi am_tab am_mlP) am_gsP am_lcP (am_tab j) j := by
  have h := am_ckO_ok hj
  unfold am_ckO at h
  obtain ⟨h, h14⟩ := am_and h
  obtain ⟨h, h13⟩ := am_and h
  obtain ⟨h, h12⟩ := am_and h
  obtain ⟨h, h11⟩ := am_and h
  obtain ⟨h, h10⟩ := am_and h
  obtain ⟨h, h9⟩ := am_and h
  obtain ⟨h, h8⟩ := am_and h
  obtain ⟨h, h7⟩ := am_and h
  obtain ⟨h, h6⟩ := am_and h
  obtain ⟨h, h5⟩ := am_and h
  obtain ⟨h1, h4⟩ := am_and h
  refine ⟨h1, hcw j hj, am_at_g h4 h5, ⟨of_decide_eq_true h6, of_decide_eq_true h7⟩, ga_beq h8, Nat.le_of_ble_eq_true h9, ⟨fun q => ?_, fun q => ?_, fun q => ?_, fun q => ?_, fun q => ?_⟩, hP j hj⟩
  · rcases am_or h10 with z | z
    · exact absurd q (am_nbeq z)
    · exact of_decide_eq_true z
  · rcases am_or h11 with z | z
    · exact absurd q (am_nbeq z)
    · exact of_decide_eq_true z
  · rcases am_or h12 with z | z
    · exact absurd q (am_nbeq z)
    · exact of_decide_eq_true z
  · rcases am_or h13 with z | z
    · exact absurd q (am_nbeq z)
    · exact of_decide_eq_true z
  · rcases am_or h14 with z | z
    · have := am_not z
      rw [show Nat.ble 5 (am_tab j).2.2.1 = true from Nat.ble_eq_true_of_le q] at this
      cases this
    · split at z
      · exact ⟨_, by assumption⟩
      · cases z
theorem am_one {P : Nat → Prop} {a : Nat} (h : P a) : ∀ j, a ≤ j → j < a + 1 → P j := fun j h1 h2 => by
  have : j = a := by omega
  rw [this]
  exact h
theorem am_spl {P : Nat → Prop} {a b : Nat} (m : Nat) (h1 : ∀ j, a ≤ j → j < m → P j) (h2 : ∀ j, m ≤ j → j < b → P j) : ∀ j, a ≤ j → j < b → P j := fun j h3 h4 => by
  by_cases h : j < m
  · exact h1 j h3 h
  · exact h2 j (by omega) h4

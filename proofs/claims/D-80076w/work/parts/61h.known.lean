/-! what the tables say of the arrays' classes -/
theorem gk_AO {C : String} {s : State} (h : va_AO C s) {k : ClassId} (hk : s.vm.findClass ("[" ++ (FieldType.object C).toString) = some k) : ArrOfT s k (.object C) ∧ va_RA s k (.object C) := by
  obtain ⟨comp, cA, kA, h1, -, h3, h4, h5⟩ := Cond.arrayOver_spec h
  have e : k = cA := Option.some.inj (hk.symm.trans h5)
  subst e
  exact ⟨fun n z => ⟨fun k h => (by cases h), kA, h3, comp, h4⟩, kA, comp, h3, h4, h1, h5⟩
theorem gk_AT {K : Nat → ClassId} {D : va_G} {s : State} {args : Array Value} (hS : gk_S K D s) (hts : ∀ w ∈ ga_tb, w.before args s = true) {e : Nat} (he : e < 9) : ArrOfT s (K e) (gk_ty e) := by
  have hk := hS.2.1 e he
  have prim : ∀ ty, (ty = .int ∨ ty = .byte ∨ ty = .boolean ∨ ty = .long) → gk_ty e = ty → ArrOfT s (K e) (gk_ty e) := by
    intro ty h1 h2
    obtain ⟨c, k, comp, g1, g2, g3⟩ := Cond.arrayClass_spec (hts _ (gk_arr ty h1))
    rw [h2] at hk ⊢
    have ek : K e = c := Option.some.inj (hk.symm.trans g1)
    rw [ek]
    exact fun n z => ⟨fun k h => (by cases h), k, g2, comp, g3⟩
  have ov : ∀ ty, gm_ov ty s → gk_ty e = .array ty → ArrOfT s (K e) (gk_ty e) := by
    rintro ty ⟨cB, cA, kA, g1, g2, g3, g4⟩ h2
    rw [h2] at hk ⊢
    have ek : K e = cA := Option.some.inj (hk.symm.trans g4)
    rw [ek]
    exact fun n z => ⟨fun k h => (by cases h), kA, g2, cB, g3⟩
  have : e = 0 ∨ e = 1 ∨ e = 2 ∨ e = 3 ∨ e = 4 ∨ e = 5 ∨ e = 6 ∨ e = 7 ∨ e = 8 := by omega
  rcases this with z | z | z | z | z | z | z | z | z
  · exact prim .int (by decide) (by rw [z]; rfl)
  · exact prim .byte (by decide) (by rw [z]; rfl)
  · exact prim .boolean (by decide) (by rw [z]; rfl)
  · exact prim .long (by decide) (by rw [z]; rfl)
  · rw [z] at hk ⊢; exact (gk_AO hS.1.1 hk).1
  · rw [z] at hk ⊢; exact (gk_AO hS.1.2.1 hk).1
  · rw [z] at hk ⊢; exact (gk_AO hS.1.2.2.1 hk).1
  · exact ov .boolean hS.1.2.2.2.1 (by rw [z]; rfl)
  · exact ov .int hS.1.2.2.2.2 (by rw [z]; rfl)
def gk_ckK (c : Nat) : Bool := match am_ac c with
  | (e, _, u, _, _, _) => match gk_kdl.getD (c - 10) 99 with
    | k => (Nat.blt e 4 && Nat.beq k e) || (Nat.beq e 4 && ((Nat.beq k 4 && Nat.beq u 9) || (Nat.beq k 6 && Nat.beq u 11) || ((Nat.beq k 5 || Nat.beq k 7 || Nat.beq k 8) && Nat.ble 1000 u)))
theorem gk_ckK_ok : (List.range 169).all (fun i => gk_ckK (10 + i)) = true := by decide +kernel
theorem gk_KN {K : Nat → ClassId} {D : va_G} {b ad : Nat → Nat} {cnt : Nat → Nat} {U0 s : State} {args : Array Value} (hS : gk_S K D s) (hts : ∀ w ∈ ga_tb, w.before args s = true) (hcnt : ∀ c, 179 ≤ c → cnt c = 0) : ga_KN (am_YS (gk_E K D b ad) cnt U0) s := by
  have cid10 : ∀ c, c < 10 → gk_cid K D c = D.1 c := fun c h => by unfold gk_cid; rw [if_pos h]
  refine ⟨⟨fun c q hq => ?_, fun k q hk => by cases hk⟩, fun c hn h0 => ?_⟩
  · have hl : c < 10 := (List.getElem?_eq_some_iff.mp (show am_cl[c]? = some q from hq)).1
    have := hS.2.2.1.1 c q hq
    show u_Kn s q.1 q.2.1 q.2.2 (gk_cid K D c) (D.2 c)
    rw [cid10 c hl]; exact this
  · have h10 : 10 ≤ c := by
      have := List.getElem?_eq_none_iff.mp (show am_cl[c]? = none from hn)
      exact this
    have h179 : c < 179 := by
      rcases Nat.lt_or_ge c 179 with z | z
      · exact z
      · have := hcnt c z
        have h0' : 0 < cnt c := h0
        omega
    have ck := List.all_eq_true.mp gk_ckK_ok (c - 10) (List.mem_range.mpr (by omega))
    rw [show 10 + (c - 10) = c by omega] at ck
    unfold gk_ckK at ck
    have len : gk_kdl.length = 169 := by decide +kernel
    have ed : gk_kdl.getD (c - 10) 99 = gk_kdl.getD (c - 10) 0 := by
      rw [List.getD_eq_getElem?_getD, List.getD_eq_getElem?_getD, List.getElem?_eq_getElem (by omega)]; rfl
    rw [ed] at ck
    show ((am_ac c).1 < 4 → ArrOfT s (gk_cid K D c) (ga_et (am_ac c).1)) ∧ ((am_ac c).1 = 4 → (∃ ty : FieldType, ty.isReference = true ∧ ArrOfT s (gk_cid K D c) ty) ∧ ((am_ac c).2.2.1 < 999 → ∃ (q : vw_C), am_cl[(am_ac c).2.2.1 - 3]? = some q ∧ ArrOfT s (gk_cid K D c) (.object q.1) ∧ va_RA s (gk_cid K D c) (.object q.1)))
    have ec : gk_cid K D c = K (gk_kdl.getD (c - 10) 0) := by unfold gk_cid; rw [if_neg (by omega)]
    rw [ec]
    cases hac : am_ac c with
    | mk e r1 =>
      obtain ⟨N, u, F, y1, y2⟩ := r1
      rw [hac] at ck
      dsimp only at ck ⊢
      obtain ⟨k, ek⟩ : ∃ k, k = gk_kdl.getD (c - 10) 0 := ⟨_, rfl⟩
      rw [← ek] at ck ⊢
      rcases Bool.or_eq_true_iff.mp ck with z | z
      · obtain ⟨z1, z2⟩ := Bool.and_eq_true_iff.mp z
        have e4 : e < 4 := Nat.le_of_ble_eq_true z1
        have ke : k = e := Nat.eq_of_beq_eq_true z2
        refine ⟨fun _ => ?_, fun h => by omega⟩
        have := gk_AT hS hts (e := e) (by omega)
        rw [ke]
        have et : gk_ty e = ga_et e := by
          have : e = 0 ∨ e = 1 ∨ e = 2 ∨ e = 3 := by omega
          rcases this with y | y | y | y <;> subst y <;> rfl
        rw [← et]; exact this
      · obtain ⟨z1, z2⟩ := Bool.and_eq_true_iff.mp z
        have e4 : e = 4 := Nat.eq_of_beq_eq_true z1
        refine ⟨fun h => by omega, fun _ => ?_⟩
        rcases Bool.or_eq_true_iff.mp z2 with z3 | z3
        · rcases Bool.or_eq_true_iff.mp z3 with z4 | z4
          · obtain ⟨w1, w2⟩ := Bool.and_eq_true_iff.mp z4
            have k4 : k = 4 := Nat.eq_of_beq_eq_true w1
            have u9 : u = 9 := Nat.eq_of_beq_eq_true w2
            have a := gk_AO hS.1.1 (hS.2.1 4 (by decide))
            rw [k4, u9]
            exact ⟨⟨_, rfl, a.1⟩, fun _ => ⟨_, rfl, a.1, a.2⟩⟩
          · obtain ⟨w1, w2⟩ := Bool.and_eq_true_iff.mp z4
            have k6 : k = 6 := Nat.eq_of_beq_eq_true w1
            have u11 : u = 11 := Nat.eq_of_beq_eq_true w2
            have a := gk_AO hS.1.2.2.1 (hS.2.1 6 (by decide))
            rw [k6, u11]
            exact ⟨⟨_, rfl, a.1⟩, fun _ => ⟨_, rfl, a.1, a.2⟩⟩
        · obtain ⟨w1, w2⟩ := Bool.and_eq_true_iff.mp z3
          have u1 : 1000 ≤ u := Nat.le_of_ble_eq_true w2
          refine ⟨?_, fun h => by omega⟩
          rcases Bool.or_eq_true_iff.mp w1 with w3 | w3
          · rcases Bool.or_eq_true_iff.mp w3 with w4 | w4
            · rw [show k = 5 from Nat.eq_of_beq_eq_true w4]
              exact ⟨_, rfl, gk_AT hS hts (e := 5) (by decide)⟩
            · rw [show k = 7 from Nat.eq_of_beq_eq_true w4]
              exact ⟨_, rfl, gk_AT hS hts (e := 7) (by decide)⟩
          · rw [show k = 8 from Nat.eq_of_beq_eq_true w3]
            exact ⟨_, rfl, gk_AT hS hts (e := 8) (by decide)⟩

/-! groups of arrays by lists of items -/
def gk_ckLM (ci mode : Nat) : List gk_it → Nat → Bool
  | [], _ => true
  | t :: r, acc => (Nat.blt (gk_e t) 7 || gk_ckM ci mode acc t) && gk_ckR ci mode 0 (gk_k t) acc && gk_ckLM ci mode r (acc + gk_sz (gk_e t) (gk_n t))
theorem gk_H1_LM {K : Nat → ClassId} {D : va_G} {b ad : Nat → Nat} {cnt : Nat → Nat} {U0 : State} {σ : ga_S} {H : Heap} {ci mode : Nat} : ∀ (its : List gk_it) (acc : Nat), gk_alx K (b mode + acc) H its → gk_ckLM ci mode its acc = true → (∀ t ∈ its, 7 ≤ gk_e t → gk_n t ≤ cnt ((am_fc ci (gk_k t)).1 - 1002)) → (∀ t ∈ its, 7 ≤ gk_e t → ∀ n i : Int, σ (am_ac ((am_fc ci (gk_k t)).1 - 1002)).2.2.2.1 n i = 0) → ∀ t ∈ its, 7 ≤ gk_e t → ga_H1 (am_YS (gk_E K D b ad) cnt U0) σ H ((am_fc ci (gk_k t)).1 - 1003) 0 ∧ ∀ j, j < gk_n t → ga_H1 (am_YS (gk_E K D b ad) cnt U0) σ H ((am_fc ci (gk_k t)).1 - 1002) j
  | [], _, _, _, _, _ => fun t ht => by cases ht
  | t0 :: r, acc, g, ck, hct, hσ => by
    intro t ht h7
    unfold gk_ckLM at ck
    obtain ⟨c1, c2⟩ := Bool.and_eq_true_iff.mp ck
    obtain ⟨c3, c4⟩ := Bool.and_eq_true_iff.mp c1
    rcases List.mem_cons.mp ht with e | ht
    · subst e
      have cm : gk_ckM ci mode acc t = true := by
        rcases Bool.or_eq_true_iff.mp c3 with z | z
        · have := Nat.le_of_ble_eq_true z
          omega
        · exact z
      exact gk_H1_M c4 cm h7 (g.1 (by omega)) (hct t List.mem_cons_self h7) (hσ t List.mem_cons_self h7)
    · exact gk_H1_LM r (acc + gk_sz (gk_e t0) (gk_n t0)) (by rw [← Nat.add_assoc]; exact g.2) c2 (fun t h => hct t (List.mem_cons_of_mem _ h)) (fun t h => hσ t (List.mem_cons_of_mem _ h)) t ht h7
/-- class c is an item's array of numbers, an outer array, its rows -/
def gk_has (its : List gk_it) (ci c : Nat) : Bool := its.any (fun t => Nat.beq (am_fc ci (gk_k t)).1 (1003 + c) && Nat.blt (gk_e t) 4 && Nat.beq (gk_ctl.getD c 0) 1)
def gk_out (its : List gk_it) (ci c : Nat) : Bool := its.any (fun t => Nat.beq (am_fc ci (gk_k t)).1 (1003 + c) && Nat.ble 7 (gk_e t) && Nat.beq (gk_ctl.getD c 0) 1)
def gk_row (its : List gk_it) (ci c : Nat) : Bool := its.any (fun t => Nat.beq (am_fc ci (gk_k t)).1 (1002 + c) && Nat.ble 7 (gk_e t) && Nat.beq (gk_ctl.getD c 0) (gk_n t))
theorem gk_has_t {its : List gk_it} {ci c : Nat} (h : gk_has its ci c = true) : ∃ t ∈ its, (am_fc ci (gk_k t)).1 - 1003 = c ∧ gk_e t < 4 ∧ gk_ctl.getD c 0 = 1 := by
  obtain ⟨t, h1, h2⟩ := List.any_eq_true.mp h
  obtain ⟨h0, h5⟩ := Bool.and_eq_true_iff.mp h2
  obtain ⟨h3, h4⟩ := Bool.and_eq_true_iff.mp h0
  have := Nat.eq_of_beq_eq_true h3
  exact ⟨t, h1, by omega, Nat.le_of_ble_eq_true h4, Nat.eq_of_beq_eq_true h5⟩
theorem gk_out_t {its : List gk_it} {ci c : Nat} (h : gk_out its ci c = true) : ∃ t ∈ its, (am_fc ci (gk_k t)).1 - 1003 = c ∧ 7 ≤ gk_e t ∧ gk_ctl.getD c 0 = 1 := by
  obtain ⟨t, h1, h2⟩ := List.any_eq_true.mp h
  obtain ⟨h0, h5⟩ := Bool.and_eq_true_iff.mp h2
  obtain ⟨h3, h4⟩ := Bool.and_eq_true_iff.mp h0
  have := Nat.eq_of_beq_eq_true h3
  exact ⟨t, h1, by omega, Nat.le_of_ble_eq_true h4, Nat.eq_of_beq_eq_true h5⟩
theorem gk_row_t {its : List gk_it} {ci c : Nat} (h : gk_row its ci c = true) : ∃ t ∈ its, (am_fc ci (gk_k t)).1 - 1002 = c ∧ 7 ≤ gk_e t ∧ gk_n t = gk_ctl.getD c 0 := by
  obtain ⟨t, h1, h2⟩ := List.any_eq_true.mp h
  obtain ⟨h3, h4⟩ := Bool.and_eq_true_iff.mp h2
  obtain ⟨h5, h6⟩ := Bool.and_eq_true_iff.mp h3
  have := Nat.eq_of_beq_eq_true h5
  exact ⟨t, h1, by omega, Nat.le_of_ble_eq_true h6, (Nat.eq_of_beq_eq_true h4).symm⟩
/-- the classes of the stages -/
theorem gk_st1 : (List.range 179).all (fun c => !(Nat.beq (gk_stl.getD c 9) 1) || [1, 2, 21, 44].contains c || gk_has it_wld 1 c || gk_has it_wds 2 c || gk_out it_wld 1 c || gk_row it_wld 1 c) = true := by decide +kernel
theorem gk_st5 : (List.range 179).all (fun c => !(Nat.beq (gk_stl.getD c 9) 5) || [6, 7, 84, 85, 86, 87].contains c) = true := by decide +kernel
theorem gk_wld_L : gk_ckL 1 2 it_wld 8 = true ∧ gk_ckLM 1 2 it_wld 8 = true ∧ gk_ckL 2 2 it_wds 2 = true ∧ gk_ckL 6 20 (it_rul.take 2) 1 = true := by decide +kernel
theorem gk_wld_F : (List.range 47).all (gk_ckF 1 (am_T am_Tl_w) it_wld 2 8 [0]) = true ∧ (List.range 9).all (gk_ckF 2 (am_T am_Tl_d) it_wds 2 2 []) = true ∧ (List.range 11).all (gk_ckF 6 (am_T am_Tl_q) it_rul 20 1 []) = true ∧ (List.range 7).all (gk_ckF 7 (am_T am_Tl_s) [] 0 0 []) = true := by decide +kernel

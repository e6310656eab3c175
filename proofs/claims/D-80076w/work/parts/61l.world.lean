theorem gk_ckS_t {L : List Nat} {r ci : Nat} {its : List gk_it} (h : gk_ckS L r ci its = true) {t : gk_it} (ht : t ∈ its) : (am_fc ci (gk_k t)).1 - 1003 < 178 ∧ (gk_e t < 4 → (am_ac ((am_fc ci (gk_k t)).1 - 1003)).1 < 4) ∧ (7 ≤ gk_e t → (am_ac ((am_fc ci (gk_k t)).1 - 1002)).1 < 4 ∧ gk_n t ≤ gk_cnt L r ((am_fc ci (gk_k t)).1 - 1002)) := by
  have ck := List.all_eq_true.mp h t ht
  obtain ⟨c1, c2⟩ := Bool.and_eq_true_iff.mp ck
  obtain ⟨c3, c4⟩ := Bool.and_eq_true_iff.mp c1
  refine ⟨Nat.le_of_ble_eq_true c3, fun h4 => ?_, fun h7 => ?_⟩
  · rcases Bool.or_eq_true_iff.mp c4 with z | z
    · have := Nat.le_of_ble_eq_true z
      omega
    · exact Nat.le_of_ble_eq_true z
  · rcases Bool.or_eq_true_iff.mp c2 with z | z
    · have := Nat.le_of_ble_eq_true z
      omega
    · obtain ⟨z1, z2⟩ := Bool.and_eq_true_iff.mp z
      exact ⟨Nat.le_of_ble_eq_true z1, Nat.le_of_ble_eq_true z2⟩
/-- an array of references, just made or filled -/
theorem gk_H1_r {Y : ga_Y} {σ : ga_S} {H : Heap} {c n N u F : Nat} {f : Nat → Value} (hcl : Y.2.2.2.2.1[c]? = none) (hac : Y.2.2.1.2.2 c = (4, (N : Int), u, F, 0, 0)) (hu : 3 ≤ u ∧ u < 999) (hH : H[Y.1.1 c n]? = some (arrV (Y.1.2.1 c) N f)) (hf : ∀ i, i < N → f i = ga_cv Y.1 (u, σ F n i) ∧ ga_vk Y (u, σ F n i)) : ga_H1 Y σ H c n := by
  have av : ∀ i : Int, ga_av (Y.2.2.1.2.2 c) n i σ = (u, σ F n i) := by
    intro i
    unfold ga_av
    rw [hac]
    dsimp only
    rw [if_pos hu.2]
  refine ⟨fun q hq => ?_, fun _ => ⟨?_, fun i hi => ?_⟩, fun h1 => ?_⟩
  · rw [hcl] at hq; cases hq
  · rw [hH, show (Y.2.2.1.2.2 c).2.1.toNat = N by rw [hac]; exact Int.toNat_natCast N]
    congr 1
    refine arrV_ext fun i hi => ?_
    rw [av]
    exact (hf i hi).1
  · rw [hac] at hi
    rw [av]
    exact (hf i (by have hi2 : (i : Int) < (N : Int) := hi; omega)).2
  · rw [hac] at h1
    cases h1

/-! bits of a property's kinds -/
theorem bit_and1 (b : BitVec 32) : (b &&& 1#32 = 1#32) ↔ b.getLsbD 0 = true := by
  constructor
  · intro h
    have := congrArg (fun z => z.getLsbD 0) h
    simpa using this
  · intro h
    apply BitVec.eq_of_getLsbD_eq
    intro i hi
    rw [BitVec.getLsbD_and]
    by_cases c : i = 0
    · rw [c, h]; rfl
    · have : (1#32).getLsbD i = false := by
        rw [BitVec.getLsbD_one]; simp [c]
      rw [this]; simp
theorem i32_1 (x : Int32) : (x &&& 1).toInt = 1 ↔ x.toBitVec.getLsbD 0 = true := by
  rw [← bit_and1]
  constructor
  · intro h
    have : x &&& 1 = 1 := Int32.toInt_inj.mp (h.trans (by decide))
    have := congrArg Int32.toBitVec this
    simpa using this
  · intro h
    have : x &&& 1 = 1 := by
      apply Int32.toBitVec_inj.mp
      simpa using h
    rw [this]; rfl
theorem bitI_iff (M j : Int) (h : 0 ≤ j ∧ j < 16) : bitI M j = (Int32.ofInt M).toBitVec.getLsbD j.toNat := by
  unfold bitI ga_iand ga_ishr
  rw [Int32.ofInt_toInt]
  have e : ∀ x : Int32, decide ((x &&& Int32.ofInt 1).toInt = 1) = x.toBitVec.getLsbD 0 := by
    intro x
    have := i32_1 x
    cases c : x.toBitVec.getLsbD 0 with
    | true => exact decide_eq_true (this.mpr c)
    | false => exact decide_eq_false (fun z => by rw [this.mp z] at c; cases c)
  rw [e]
  have z : j = 0 ∨ j = 1 ∨ j = 2 ∨ j = 3 ∨ j = 4 ∨ j = 5 ∨ j = 6 ∨ j = 7 ∨ j = 8 ∨ j = 9 ∨ j = 10 ∨ j = 11 ∨ j = 12 ∨ j = 13 ∨ j = 14 ∨ j = 15 := by omega
  rcases z with rfl | rfl | rfl | rfl | rfl | rfl | rfl | rfl | rfl | rfl | rfl | rfl | rfl | rfl | rfl | rfl <;>
    (rw [Int32.toBitVec_shiftRight]; simp [BitVec.getLsbD_sshiftRight, BitVec.getElem_sshiftRight])
theorem bitI_or (M k j : Int) (hk : 0 ≤ k ∧ k < 16) (hj : 0 ≤ j ∧ j < 16) : bitI (ga_ior M (ga_ishl 1 k)) j = (bitI M j || decide (j = k)) := by
  rw [bitI_iff _ j hj, bitI_iff M j hj]
  unfold ga_ior ga_ishl
  rw [Int32.ofInt_toInt, Int32.ofInt_toInt, Int32.toBitVec_or, BitVec.getLsbD_or]
  congr 1
  have z : k = 0 ∨ k = 1 ∨ k = 2 ∨ k = 3 ∨ k = 4 ∨ k = 5 ∨ k = 6 ∨ k = 7 ∨ k = 8 ∨ k = 9 ∨ k = 10 ∨ k = 11 ∨ k = 12 ∨ k = 13 ∨ k = 14 ∨ k = 15 := by omega
  have y : j = 0 ∨ j = 1 ∨ j = 2 ∨ j = 3 ∨ j = 4 ∨ j = 5 ∨ j = 6 ∨ j = 7 ∨ j = 8 ∨ j = 9 ∨ j = 10 ∨ j = 11 ∨ j = 12 ∨ j = 13 ∨ j = 14 ∨ j = 15 := by omega
  rcases z with rfl | rfl | rfl | rfl | rfl | rfl | rfl | rfl | rfl | rfl | rfl | rfl | rfl | rfl | rfl | rfl <;>
    rcases y with rfl | rfl | rfl | rfl | rfl | rfl | rfl | rfl | rfl | rfl | rfl | rfl | rfl | rfl | rfl | rfl <;> decide
theorem bitI_0 (j : Int) (hj : 0 ≤ j ∧ j < 16) : bitI 0 j = false := by
  have y : j = 0 ∨ j = 1 ∨ j = 2 ∨ j = 3 ∨ j = 4 ∨ j = 5 ∨ j = 6 ∨ j = 7 ∨ j = 8 ∨ j = 9 ∨ j = 10 ∨ j = 11 ∨ j = 12 ∨ j = 13 ∨ j = 14 ∨ j = 15 := by omega
  rcases y with rfl | rfl | rfl | rfl | rfl | rfl | rfl | rfl | rfl | rfl | rfl | rfl | rfl | rfl | rfl | rfl <;> decide

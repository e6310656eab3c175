/-! the letters of a packed word -/
theorem lshrG {w s : Int} (hw : 0 ≤ w) (hw2 : w < 1152921504606846976) (n : Nat) (h : (((Int32.ofInt s).toInt64 &&& 63).toBitVec.smod 64).toNat = n) : ga_lshr w s = w / 2 ^ n := by
  unfold ga_lshr
  show (BitVec.sshiftRight (Int64.ofInt w).toBitVec ((((Int32.ofInt s).toInt64 &&& 63).toBitVec.smod 64).toNat)).toInt = _
  rw [h, BitVec.toInt_sshiftRight]
  have t : (Int64.ofInt w).toBitVec.toInt = w := by
    show (Int64.ofInt w).toInt = w
    rw [Int64.toInt_ofInt_of_le (by omega) (by omega)]
  rw [t, Int.shiftRight_eq_div_pow]
  rfl
theorem lshr5 {w : Int} (hw : 0 ≤ w) (hw2 : w < 1152921504606846976) (k : Nat) (hk : k ≤ 12) : ga_lshr w (w32 (5 * k)) = w / 32 ^ k := by
  have e : k = 0 ∨ k = 1 ∨ k = 2 ∨ k = 3 ∨ k = 4 ∨ k = 5 ∨ k = 6 ∨ k = 7 ∨ k = 8 ∨ k = 9 ∨ k = 10 ∨ k = 11 ∨ k = 12 := by omega
  have p : ∀ m : Nat, (2 : Int) ^ (5 * m) = 32 ^ m := fun m => by rw [Int.pow_mul]; rfl
  rw [← p k]
  rcases e with e | e | e | e | e | e | e | e | e | e | e | e | e <;> subst e <;> exact lshrG hw hw2 _ (by decide)
theorem land31 {x : Int} (h0 : 0 ≤ x) (h1 : x < 1152921504606846976) : ga_land x 31 = x % 32 := by
  unfold ga_land
  show ((Int64.ofInt x).toBitVec &&& (Int64.ofInt 31).toBitVec).toInt = _
  have t : (Int64.ofInt x).toBitVec.toInt = x := by
    show (Int64.ofInt x).toInt = x
    rw [Int64.toInt_ofInt_of_le (by omega) (by omega)]
  have n : ((Int64.ofInt x).toBitVec.toNat : Int) = x := by
    rw [BitVec.toInt_eq_toNat_cond] at t
    have := (Int64.ofInt x).toBitVec.isLt
    split at t <;> omega
  have a : ((Int64.ofInt x).toBitVec &&& (Int64.ofInt 31).toBitVec).toNat = (Int64.ofInt x).toBitVec.toNat % 32 := by
    rw [BitVec.toNat_and, show (Int64.ofInt 31).toBitVec.toNat = 2 ^ 5 - 1 by decide, Nat.and_two_pow_sub_one_eq_mod]
  rw [BitVec.toInt_eq_toNat_cond, a, if_pos (by omega)]
  omega
theorem packF_d : ∀ (l : List Int) (w : Int), isW l → packF w l / 32 ^ l.length = w := by
  intro l
  induction l with
  | nil => intro w _; show w / 32 ^ 0 = w; rw [Int.pow_zero, Int.ediv_one]
  | cons c r ih =>
    intro w hl
    have hc := hl c (List.mem_cons_self ..)
    have i := ih (32 * w + (c - 96)) (fun x hx => hl x (List.mem_cons_of_mem _ hx))
    show packF (32 * w + (c - 96)) r / 32 ^ (r.length + 1) = w
    rw [Int.pow_succ, ← Int.ediv_ediv_of_nonneg (Int.le_of_lt (Int.pow_pos (by decide))), i]
    omega
theorem pack_at (a b : List Int) (c : Int) (h : isW (a ++ c :: b)) : (pack (a ++ c :: b) / 32 ^ b.length) % 32 + 96 = c := by
  have hc := h c (by simp)
  unfold pack
  rw [packF_app]
  show (packF (32 * packF 0 a + (c - 96)) b / 32 ^ b.length) % 32 + 96 = c
  rw [packF_d b _ (fun x hx => h x (by simp [hx]))]
  omega

/-! the letters of a packed word, model -/
section
variable {τ : ga_S} {l : List Int}
theorem lcmp0 {x : Int} : ga_lcmp x 0 = 0 ↔ x = 0 := by
  unfold ga_lcmp
  split
  · constructor
    · intro z; omega
    · intro z; omega
  · split
    · constructor
      · intro _; omega
      · intro _; rfl
    · constructor
      · intro z; omega
      · intro z; omega
theorem s_letterOf_24 (h : isW l) (hl : l.length ≤ 12) (d : Nat) {j : Int} (hj : 0 ≤ j ∧ j < 2147483648) : m_letterOf_24 d τ (pack l) j (l.length : Nat) = some (if j < l.length then l.getD j.toNat 0 else -1, τ) := by
  rw [e_m_letterOf_24]
  by_cases c : j < (l.length : Int)
  · rw [if_pos c, if_pos c]
    obtain ⟨n, rfl⟩ : ∃ n : Nat, j = n := ⟨j.toNat, by omega⟩
    have hn : n < l.length := by omega
    rw [w32_ok (x := (l.length : Int) - 1) (by omega), w32_ok (x := (l.length : Int) - 1 - n) (by omega)]
    have e : (l.length : Int) - 1 - n = ((l.length - 1 - n : Nat) : Int) := by omega
    have p0 := (pack_lt h).1
    have p1 := pack_12 h hl
    rw [e, lshr5 p0 p1 _ (by omega)]
    have hp : (0 : Int) < 32 ^ (l.length - 1 - n) := Int.pow_pos (by decide)
    have q0 : 0 ≤ pack l / 32 ^ (l.length - 1 - n) := Int.ediv_nonneg p0 (Int.le_of_lt hp)
    have q1 : pack l / 32 ^ (l.length - 1 - n) ≤ pack l := Int.ediv_le_self _ p0
    rw [land31 q0 (by omega)]
    have s : l = l.take n ++ l.getD n 0 :: l.drop (n + 1) := by
      have z : l.drop n = l.getD n 0 :: l.drop (n + 1) := by
        rw [List.drop_eq_getElem_cons hn, List.getD_eq_getElem?_getD, List.getElem?_eq_getElem hn]; rfl
      rw [← z, List.take_append_drop]
    have a := pack_at (l.take n) (l.drop (n + 1)) (l.getD n 0) (by rw [← s]; exact h)
    rw [← s, List.length_drop, show l.length - (n + 1) = l.length - 1 - n by omega] at a
    rw [w32_ok (x := (pack l / 32 ^ (l.length - 1 - n)) % 32) (by omega), w32_ok (by omega), a]
    rfl
  · rw [if_neg c, if_neg c]
theorem s_letterOf_2 (h : isW l) (h0 : l ≠ []) (hl : l.length ≤ 12) (d : Nat) {j : Int} (hj : 0 ≤ j ∧ j < 2147483648) : ∀ m n : Nat, n + m = l.length → m_letterOf_2 d τ (pack l) j (n : Nat) = some (if j < l.length then l.getD j.toNat 0 else -1, τ)
  | 0, n, e => by
    have p0 := (pack_lt h).1
    have p1 := pack_12 h hl
    have p2 := (pack_lt h).2
    have en : n = l.length := by omega
    rw [e_m_letterOf_2, en]
    by_cases c : (l.length : Int) < 12
    · rw [if_pos c, if_pos (lcmp0.mpr (by rw [lshr5 p0 p1 _ (by omega)]; exact Int.ediv_eq_zero_of_lt p0 p2))]
      exact s_letterOf_24 h hl d hj
    · rw [if_neg c]; exact s_letterOf_24 h hl d hj
  | m + 1, n, e => by
    have p0 := (pack_lt h).1
    have p1 := pack_12 h hl
    have p2 := pack_ge h h0
    have hp : (0 : Int) < 32 ^ n := Int.pow_pos (by decide)
    have g : (32 : Int) ^ n ≤ pack l := Int.le_trans (ipow_le (by decide) (by omega)) p2
    have k : 1 ≤ pack l / 32 ^ n := (Int.le_ediv_iff_mul_le hp).mpr (by omega)
    rw [e_m_letterOf_2, if_pos (by omega), if_neg (fun z => by rw [lcmp0, lshr5 p0 p1 _ (by omega)] at z; omega), w32_ok (by omega)]
    exact s_letterOf_2 h h0 hl d hj m (n + 1) (by omega)
theorem s_letterOf (h : isW l) (h0 : l ≠ []) (hl : l.length ≤ 12) {d : Nat} (hd : 1 ≤ d) {j : Int} (hj : 0 ≤ j ∧ j < 2147483648) : c_m_letterOf d τ (pack l) j = some (if j < l.length then l.getD j.toNat 0 else -1, τ) := by
  obtain ⟨d, rfl⟩ : ∃ e, d = e + 1 := ⟨d - 1, by omega⟩
  rw [e_m_letterOf]
  exact s_letterOf_2 h h0 hl d hj l.length 0 (by omega)
end

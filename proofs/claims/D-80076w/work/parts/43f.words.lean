/-! a name written out, on both sides -/
section
variable {σ τ : ga_S} {k k' : Int}
theorem m_byteOf (h : eM σ τ k k') (hs : τ fM_lexLong 0 k' = 0 ∨ σ fD_sorts 0 k ≠ 12) (hk : 0 ≤ k' ∧ k' < 300) {d : Nat} (hd : 2 ≤ d) {j : Int} (hj : 0 ≤ j ∧ j < 2147483648) : c_m_byteOf d τ k' j = some (bt (ent σ k) j, τ) := by
  obtain ⟨d, rfl⟩ : ∃ e, d = e + 1 := ⟨d - 1, by omega⟩
  obtain ⟨W, w1, w2, w3, w4, w5, w6, _⟩ := h
  have n0 : W ≠ [] := fun z => by rw [z] at w2; exact absurd w2 (by decide)
  have e : ent σ k = jn W ++ sL τ k' := by
    unfold sL
    rcases w6 with ⟨a, b⟩ | ⟨a, _, b⟩
    · rw [if_pos a, b, List.append_nil]
    · rw [if_neg (by rw [a]; decide), b, jn_addS _ n0]
  rw [e_m_byteOf]
  have q := s_byteOf_5 (τ := τ) hk w1 w3 w4 (w5 hs) (d := d) (by omega) W [] rfl j hj.1 hj.2
  rw [if_neg n0, ← e] at q
  exact q
theorem ent_bt (h0 : 0 ≤ σ fD_sizes 0 k) {j : Int} (hj : 0 ≤ j) : bt (ent σ k) j = if j < σ fD_sizes 0 k then σ fD_letters 0 (σ fD_froms 0 k + j) else -1 := by
  have el : ((ent σ k).length : Int) = σ fD_sizes 0 k := by
    unfold ent; rw [List.length_map, rg_len, if_pos h0]; omega
  unfold bt
  rw [el]
  by_cases c : j < σ fD_sizes 0 k
  · rw [if_pos c, if_pos c]
    unfold ent
    rw [rg_getD _ _ _ _ _ (by omega), show (0 : Int) + (j.toNat : Int) = j by omega]
  · rw [if_neg c, if_neg c]
theorem bt_ne {L : List Int} (h : ∀ c ∈ L, c ≠ -1) {j : Int} (h0 : 0 ≤ j) (h1 : j < L.length) : bt L j ≠ -1 := by
  have hn : j.toNat < L.length := by omega
  unfold bt
  rw [if_pos h1, List.getD_eq_getElem?_getD, List.getElem?_eq_getElem hn]
  exact h _ (List.getElem_mem hn)
end

/-! a name written out, on both sides: the loop -/
section
variable {σ τ : ga_S} {k k' : Int}
theorem jn_no1 : ∀ W : List (List Int), wsW W → ∀ c ∈ jn W, c ≠ -1
  | [], _, c, hc => absurd hc (by simp [jn])
  | [w], h, c, hc => by
    have q := (h w (by simp)).1 c (by rw [jn1] at hc; exact hc)
    omega
  | w :: x :: r, h, c, hc => by
    rw [jn2] at hc
    rcases List.mem_append.mp hc with z | z
    · have q := (h w (by simp)).1 c z
      omega
    · rcases List.mem_cons.mp z with y | y
      · omega
      · exact jn_no1 (x :: r) (fun w hw => h w (List.mem_cons_of_mem _ hw)) c y
theorem ent_ne (h : eM σ τ k k') : ∀ c ∈ ent σ k, c ≠ -1 := by
  obtain ⟨W, w1, w2, w3, w4, w5, w6, _⟩ := h
  have n0 : W ≠ [] := fun z => by rw [z] at w2; exact absurd w2 (by decide)
  rcases w6 with ⟨_, b⟩ | ⟨_, _, b⟩
  · rw [b]; exact jn_no1 W w1
  · rw [b, jn_addS _ n0]
    intro c hc
    rcases List.mem_append.mp hc with z | z
    · exact jn_no1 W w1 c z
    · rw [List.mem_singleton] at z; omega
theorem eM_o {σ1 τ1 : ga_S} (h : eM σ τ k k') (f1 : fr ouC σ σ1) (f2 : fr ouM τ τ1) : eM σ1 τ1 k k' := by
  unfold eM ent at h ⊢
  rw [f1 fD_sorts (by decide), f1 fD_numbers (by decide), f1 fD_sizes (by decide), f1 fD_letters (by decide), f1 fD_froms (by decide), f2 fM_lexSize (by decide), f2 fM_lexLong (by decide), f2 fM_lexWord (by decide), f2 fM_lexSort (by decide), f2 fM_lexIndex (by decide)]
  exact h
theorem ww_2 (hk' : 0 ≤ k' ∧ k' < 300) (hk : 0 ≤ k ∧ k < 640) {d : Nat} (hd : 2 ≤ d) : ∀ m : Nat, ∀ (i : Int) (σ τ : ga_S), 0 ≤ i → i + m = σ fD_sizes 0 k → 0 ≤ σ fD_froms 0 k → σ fD_froms 0 k + σ fD_sizes 0 k ≤ 24000 → eM σ τ k k' → (τ fM_lexLong 0 k' = 0 ∨ σ fD_sorts 0 k ≠ 12) → OJ σ τ → ∃ σ' τ', u_writeWords_2 d σ k i = some (0, σ') ∧ m_putLex_2 d τ k' i = some (0, τ') ∧ fr ouC σ σ' ∧ fr ouM τ τ' ∧ OJ σ' τ'
  | 0, i, σ, τ, hi, e, hf, hz, h, hs, J => by
    have b := m_byteOf h hs hk' hd (j := i) (by omega)
    rw [ent_bt (by omega) hi, if_neg (by omega)] at b
    refine ⟨σ, τ, ?_, ?_, fr_refl _ _, fr_refl _ _, J⟩
    · rw [e_u_writeWords_2, ck_ok _ hk, if_neg (by omega)]
    · rw [e_m_putLex_2, if_neg (by omega), b, Option.bind_some, if_pos rfl]
  | m + 1, i, σ, τ, hi, e, hf, hz, h, hs, J => by
    have b := m_byteOf h hs hk' hd (j := i) (by omega)
    have ne := bt_ne (ent_ne h) hi (by unfold ent; rw [List.length_map, rg_len, if_pos (by omega)]; omega)
    rw [ent_bt (by omega) hi, if_pos (by omega)] at b ne
    obtain ⟨σ1, τ1, a1, a2, f1, f2, J1⟩ := wr_J J (σ fD_letters 0 (σ fD_froms 0 k + i)) (d := d) (by omega)
    obtain ⟨σ2, τ2, b1, b2, g1, g2, J2⟩ := ww_2 hk' hk hd m (i + 1) σ1 τ1 (by omega) (by rw [f1 _ (by decide)]; omega) (by rw [f1 _ (by decide)]; exact hf) (by rw [f1 fD_froms (by decide), f1 fD_sizes (by decide)]; exact hz) (eM_o h f1 f2) (by rw [f1 fD_sorts (by decide), f2 fM_lexLong (by decide)]; exact hs) J1
    refine ⟨σ2, τ2, ?_, ?_, fr_trans f1 g1, fr_trans f2 g2, J2⟩
    · rw [e_u_writeWords_2, ck_ok _ hk, if_pos (by omega), ck_ok _ hk, w32_ok (by omega), ck_ok _ (by omega), a1, Option.bind_some, w32_ok (by omega)]; exact b1
    · rw [e_m_putLex_2, if_neg (by omega), b, Option.bind_some]
      refine Eq.trans (if_neg ne) ?_
      show Option.bind (c_m_byteOf d τ k' i) _ = _
      rw [b, Option.bind_some]
      show Option.bind (c_m_put d τ (σ fD_letters 0 (σ fD_froms 0 k + i))) _ = _
      rw [a2, Option.bind_some, w32_ok (by omega)]; exact b2
/-- a name -/
theorem ww_J (hk' : 0 ≤ k' ∧ k' < 300) (hk : 0 ≤ k ∧ k < 640) (h0 : 0 ≤ σ fD_sizes 0 k) (hf : 0 ≤ σ fD_froms 0 k) (hz : σ fD_froms 0 k + σ fD_sizes 0 k ≤ 24000) (h : eM σ τ k k') (hs : τ fM_lexLong 0 k' = 0 ∨ σ fD_sorts 0 k ≠ 12) (J : OJ σ τ) {d : Nat} (hd : 3 ≤ d) : ∃ σ' τ', c_u_writeWords d σ k = some (0, σ') ∧ c_m_putLex d τ k' = some (0, τ') ∧ fr ouC σ σ' ∧ fr ouM τ τ' ∧ OJ σ' τ' := by
  obtain ⟨d, rfl⟩ : ∃ e, d = e + 1 := ⟨d - 1, by omega⟩
  rw [e_u_writeWords, e_m_putLex]
  exact ww_2 hk' hk (by omega) (σ fD_sizes 0 k).toNat 0 σ τ (by omega) (by omega) hf hz h hs J
end

/-! telling words: the two dictionaries -/
theorem s_cpy_D {d : Nat} (hd : 1 ≤ d) (σ : ga_S) {p n : Int} (hp : 0 ≤ p ∧ p + n ≤ 24000) (hn : 0 ≤ n ∧ n ≤ 1000) : p_cpy_59_54 d σ 0 p n = some (0, am_copy σ fD_spelled 0 0 fD_letters 0 p n) := by
  obtain ⟨d, rfl⟩ : ∃ e, d = e + 1 := ⟨d - 1, by omega⟩
  show (if (0 : Int) ≤ 0 ∧ 0 ≤ p ∧ (0 : Int) ≤ n ∧ (0 : Int) + n ≤ 1000 ∧ p + n ≤ 24000 then some ((0 : Int), am_copy σ fD_spelled 0 0 fD_letters 0 p n) else none) = _
  rw [if_pos (by omega)]
theorem am_copy_no (σ : ga_S) (Fa : Nat) (n sp : Int) (Fb : Nat) (m dp len : Int) {i : Int} (h : ¬ (dp ≤ i ∧ i < dp + len)) : am_copy σ Fa n sp Fb m dp len Fb m i = σ Fb m i := by
  unfold am_copy
  rw [if_neg (fun z => h ⟨z.2.2.1, z.2.2.2⟩)]
/-- words told by the component -/
def DT (σ σ' : ga_S) (L : List Int) (s n : Int) : Prop := fr (dicL ++ spL) σ σ' ∧ wfD σ' ∧ σ' fD_count 0 0 = σ fD_count 0 0 + 1 ∧ σ' fD_used 0 0 = σ fD_used 0 0 + L.length ∧ (∀ k, 0 ≤ k → k < σ fD_count 0 0 → ent σ' k = ent σ k ∧ σ' fD_sorts 0 k = σ fD_sorts 0 k ∧ σ' fD_numbers 0 k = σ fD_numbers 0 k ∧ σ' fD_sizes 0 k = σ fD_sizes 0 k) ∧ ent σ' (σ fD_count 0 0) = L ∧ σ' fD_sorts 0 (σ fD_count 0 0) = s ∧ σ' fD_numbers 0 (σ fD_count 0 0) = n ∧ σ' fD_sizes 0 (σ fD_count 0 0) = L.length
theorem k_tell {σ : ga_S} {L : List Int} (A : AT σ L) (hL : L.length ≤ 40) (W : wfD σ) (hc : σ fD_count 0 0 < 640) (hu : σ fD_used 0 0 + 40 ≤ 24000) {d : Nat} (hd : 2 ≤ d) (s n : Int) : ∃ σ', c_d_tell d σ s n = some (0, σ') ∧ DT σ σ' L s n ∧ fr dicL σ σ' := by
  obtain ⟨d, rfl⟩ : ∃ e, d = e + 1 := ⟨d - 1, by omega⟩
  obtain ⟨a1, a2, a3⟩ := A
  rw [List.take_of_length_le (by omega)] at a1
  obtain ⟨w1, w2, w3, w4, w5⟩ := W
  have sz : σ fD_size 0 0 = (L.length : Int) := by
    have : (spl σ).length = L.length := by rw [a1]
    unfold spl at this
    rw [List.length_map] at this
    have z := rg_len (n := σ fD_size 0 0) 0
    rw [if_pos a2] at z
    omega
  obtain ⟨ρ, eρ⟩ : ∃ x, x = am_copy σ fD_spelled 0 0 fD_letters 0 (σ fD_used 0 0) (σ fD_size 0 0) := ⟨_, rfl⟩
  have fρ : fr [fD_letters] σ ρ := by rw [eρ]; exact am_copy_fr _ _ _ _ _ _ _ _
  have run0 := e_d_tell d σ s n
  rw [s_cpy_D (by omega) σ (by omega) (by omega), ← eρ] at run0
  simp only [Option.bind_some] at run0
  rw [fρ fD_count (by decide), ck_ok _ (by omega), ck_ok _ (by omega), ck_ok _ (by omega), ck_ok _ (by omega), fρ fD_used (by decide), fρ fD_size (by decide), w32_ok (x := σ fD_used 0 0 + σ fD_size 0 0) (by omega), w32_ok (x := σ fD_count 0 0 + 1) (by omega)] at run0
  obtain ⟨σ', e'⟩ : ∃ x, x = (ga_up (ga_up (ga_up (ga_up (ga_up (ga_up ρ fD_froms 0 (σ fD_count 0 0) (σ fD_used 0 0)) fD_sizes 0 (σ fD_count 0 0) (σ fD_size 0 0)) fD_sorts 0 (σ fD_count 0 0) s) fD_numbers 0 (σ fD_count 0 0) n) fD_used 0 0 (σ fD_used 0 0 + σ fD_size 0 0)) fD_count 0 0 (σ fD_count 0 0 + 1)) := ⟨_, rfl⟩
  rw [← e'] at run0
  have fd : fr dicL σ σ' := by
    rw [e']
    exact fr_trans (fr_sub fρ (by decide)) (fr_trans (fr_u (by decide)) (fr_trans (fr_u (by decide)) (fr_trans (fr_u (by decide)) (fr_trans (fr_u (by decide)) (fr_trans (fr_u (by decide)) (fr_u (by decide)))))))
  refine ⟨σ', run0, ?_, fd⟩
  have gl : σ' fD_letters 0 = ρ fD_letters 0 := by rw [e', up_F (by decide), up_F (by decide), up_F (by decide), up_F (by decide), up_F (by decide), up_F (by decide)]
  have gf : ∀ k, σ' fD_froms 0 k = if k = σ fD_count 0 0 then σ fD_used 0 0 else σ fD_froms 0 k := by
    intro k
    rw [e', up_F (by decide), up_F (by decide), up_F (by decide), up_F (by decide), up_F (by decide)]
    by_cases c : k = σ fD_count 0 0
    · rw [c, up_eq, if_pos rfl]
    · rw [up_i c, if_neg c, fρ fD_froms (by decide)]
  have gz : ∀ k, σ' fD_sizes 0 k = if k = σ fD_count 0 0 then σ fD_size 0 0 else σ fD_sizes 0 k := by
    intro k
    rw [e', up_F (by decide), up_F (by decide), up_F (by decide), up_F (by decide)]
    by_cases c : k = σ fD_count 0 0
    · rw [c, up_eq, if_pos rfl]
    · rw [up_i c, if_neg c, up_F (by decide), fρ fD_sizes (by decide)]
  have gs : ∀ k, σ' fD_sorts 0 k = if k = σ fD_count 0 0 then s else σ fD_sorts 0 k := by
    intro k
    rw [e', up_F (by decide), up_F (by decide), up_F (by decide)]
    by_cases c : k = σ fD_count 0 0
    · rw [c, up_eq, if_pos rfl]
    · rw [up_i c, if_neg c, up_F (by decide), up_F (by decide), fρ fD_sorts (by decide)]
  have gn : ∀ k, σ' fD_numbers 0 k = if k = σ fD_count 0 0 then n else σ fD_numbers 0 k := by
    intro k
    rw [e', up_F (by decide), up_F (by decide)]
    by_cases c : k = σ fD_count 0 0
    · rw [c, up_eq, if_pos rfl]
    · rw [up_i c, if_neg c, up_F (by decide), up_F (by decide), up_F (by decide), fρ fD_numbers (by decide)]
  have gu : σ' fD_used 0 0 = σ fD_used 0 0 + σ fD_size 0 0 := by rw [e', up_F (by decide), up_eq]
  have gc : σ' fD_count 0 0 = σ fD_count 0 0 + 1 := by rw [e', up_eq]
  have lt : ∀ i, i < σ fD_used 0 0 → ρ fD_letters 0 i = σ fD_letters 0 i := by
    intro i hi
    rw [eρ, am_copy_no _ _ _ _ _ _ _ _ (by omega)]
  have ln : ∀ i, 0 ≤ i → i < σ fD_size 0 0 → ρ fD_letters 0 (σ fD_used 0 0 + i) = σ fD_spelled 0 i := by
    intro i h0 hi
    rw [eρ, am_copy_at _ _ _ _ _ _ _ _ (by omega)]
    congr 1; omega
  refine ⟨?_, ?_, gc, by rw [gu, sz], ?_, ?_, by rw [gs, if_pos rfl], by rw [gn, if_pos rfl], by rw [gz, if_pos rfl, sz]⟩
  · exact fr_sub fd (by decide)
  · refine ⟨by omega, by omega, by omega, by omega, ?_⟩
    intro k h0 hk
    rw [gf, gz, gu]
    by_cases c : k = σ fD_count 0 0
    · rw [if_pos c, if_pos c]; omega
    · rw [if_neg c, if_neg c]; have := w5 k h0 (by omega); omega
  · intro k h0 hk
    have c : k ≠ σ fD_count 0 0 := by omega
    have v := w5 k h0 hk
    refine ⟨?_, by rw [gs, if_neg c], by rw [gn, if_neg c], by rw [gz, if_neg c]⟩
    unfold ent
    rw [gz, gf, if_neg c, if_neg c, gl]
    apply List.map_congr_left
    intro i hi
    have := (rg_mem _).mp hi
    exact lt _ (by omega)
  · unfold ent
    rw [gz, gf, if_pos rfl, if_pos rfl, gl, ← a1]
    unfold spl
    apply List.map_congr_left
    intro i hi
    have := (rg_mem _).mp hi
    exact ln _ (by omega) (by omega)
/-- words told by the model -/
def MT (τ τ' : ga_S) (W : List (List Int)) (lg s n : Int) : Prop := fr lexL τ τ' ∧ τ' fM_lexes 0 0 = τ fM_lexes 0 0 + 1 ∧ (∀ k, 0 ≤ k → k ≠ τ fM_lexes 0 0 → τ' fM_lexSize 0 k = τ fM_lexSize 0 k ∧ τ' fM_lexSort 0 k = τ fM_lexSort 0 k ∧ τ' fM_lexIndex 0 k = τ fM_lexIndex 0 k ∧ τ' fM_lexLong 0 k = τ fM_lexLong 0 k ∧ (∀ i, 0 ≤ i → i < 3 → τ' fM_lexWord 0 (3 * k + i) = τ fM_lexWord 0 (3 * k + i))) ∧ τ' fM_lexSize 0 (τ fM_lexes 0 0) = W.length ∧ τ' fM_lexSort 0 (τ fM_lexes 0 0) = s ∧ τ' fM_lexIndex 0 (τ fM_lexes 0 0) = n ∧ τ' fM_lexLong 0 (τ fM_lexes 0 0) = lg ∧ (lg = 0 ∨ s ≠ 10 → ∀ i : Nat, i < W.length → τ' fM_lexWord 0 (3 * τ fM_lexes 0 0 + i) = pack (W.getD i []))
/-- the entry that the model writes -/
theorem m_tellR {τ : ga_S} (hl : 0 ≤ τ fM_lexes 0 0 ∧ τ fM_lexes 0 0 < 300) (a b c z : Int) {d : Nat} (hd : 1 ≤ d) (s n : Int) : ∃ τ', c_m_tell d τ s n a b c z = some (0, τ') ∧ fr lexL τ τ' ∧ τ' fM_lexes 0 0 = τ fM_lexes 0 0 + 1 ∧ (∀ k, 0 ≤ k → k ≠ τ fM_lexes 0 0 → τ' fM_lexSize 0 k = τ fM_lexSize 0 k ∧ τ' fM_lexSort 0 k = τ fM_lexSort 0 k ∧ τ' fM_lexIndex 0 k = τ fM_lexIndex 0 k ∧ τ' fM_lexLong 0 k = τ fM_lexLong 0 k ∧ (∀ i, 0 ≤ i → i < 3 → τ' fM_lexWord 0 (3 * k + i) = τ fM_lexWord 0 (3 * k + i))) ∧ τ' fM_lexSize 0 (τ fM_lexes 0 0) = z ∧ τ' fM_lexSort 0 (τ fM_lexes 0 0) = s ∧ τ' fM_lexIndex 0 (τ fM_lexes 0 0) = n ∧ τ' fM_lexLong 0 (τ fM_lexes 0 0) = 0 ∧ τ' fM_lexWord 0 (3 * τ fM_lexes 0 0) = a ∧ τ' fM_lexWord 0 (3 * τ fM_lexes 0 0 + 1) = b ∧ τ' fM_lexWord 0 (3 * τ fM_lexes 0 0 + 2) = c := by
  obtain ⟨d, rfl⟩ : ∃ e, d = e + 1 := ⟨d - 1, by omega⟩
  obtain ⟨l, el⟩ : ∃ x, x = τ fM_lexes 0 0 := ⟨_, rfl⟩
  have run0 := e_m_tell d τ s n a b c z
  rw [← el] at run0 hl
  rw [w32_ok (x := 3 * l) (by omega), w32_ok (x := 3 * l + 1) (by omega), w32_ok (x := 3 * l + 2) (by omega), w32_ok (x := l + 1) (by omega), ck_ok _ (by omega), ck_ok _ (by omega), ck_ok _ (by omega), ck_ok _ (by omega), ck_ok _ (by omega), ck_ok _ (by omega), ck_ok _ (by omega)] at run0
  rw [← el]
  refine ⟨_, run0, ?_, ?_, ?_, ?_, ?_, ?_, ?_, ?_, ?_, ?_⟩
  · exact fr_trans (fr_u (by decide)) (fr_trans (fr_u (by decide)) (fr_trans (fr_u (by decide)) (fr_trans (fr_u (by decide)) (fr_trans (fr_u (by decide)) (fr_trans (fr_u (by decide)) (fr_trans (fr_u (by decide)) (fr_u (by decide))))))))
  · rw [up_eq]
  · intro k h0 hk
    have c : k ≠ l := by omega
    refine ⟨?_, ?_, ?_, ?_, ?_⟩
    · rw [up_F (by decide), up_F (by decide), up_F (by decide), up_F (by decide), up_F (by decide), up_F (by decide), up_F (by decide), up_i c]
    · rw [up_F (by decide), up_F (by decide), up_F (by decide), up_i c, up_F (by decide), up_F (by decide), up_F (by decide), up_F (by decide)]
    · rw [up_F (by decide), up_F (by decide), up_i c, up_F (by decide), up_F (by decide), up_F (by decide), up_F (by decide), up_F (by decide)]
    · rw [up_F (by decide), up_i c, up_F (by decide), up_F (by decide), up_F (by decide), up_F (by decide), up_F (by decide), up_F (by decide)]
    · intro i i0 i3
      rw [up_F (by decide), up_F (by decide), up_F (by decide), up_F (by decide), up_i (by omega), up_i (by omega), up_i (by omega), up_F (by decide)]
  · rw [up_F (by decide), up_F (by decide), up_F (by decide), up_F (by decide), up_F (by decide), up_F (by decide), up_F (by decide), up_eq]
  · rw [up_F (by decide), up_F (by decide), up_F (by decide), up_eq]
  · rw [up_F (by decide), up_F (by decide), up_eq]
  · rw [up_F (by decide), up_eq]
  · rw [up_F (by decide), up_F (by decide), up_F (by decide), up_F (by decide), up_i (by omega), up_i (by omega), up_eq]
  · rw [up_F (by decide), up_F (by decide), up_F (by decide), up_F (by decide), up_i (by omega), up_eq]
  · rw [up_F (by decide), up_F (by decide), up_F (by decide), up_F (by decide), up_eq]
theorem m_tell {τ : ga_S} (hl : 0 ≤ τ fM_lexes 0 0 ∧ τ fM_lexes 0 0 < 300) {W : List (List Int)} (h1 : 1 ≤ W.length) (h3 : W.length ≤ 3) {a b c : Int} (ha : a = pack (W.getD 0 [])) (hb : 1 < W.length → b = pack (W.getD 1 [])) (hc : 2 < W.length → c = pack (W.getD 2 [])) {d : Nat} (hd : 1 ≤ d) (s n : Int) : ∃ τ', c_m_tell d τ s n a b c W.length = some (0, τ') ∧ MT τ τ' W 0 s n := by
  obtain ⟨τ', e1, e2, e3, e4, e5, e6, e7, e8, e9, e10, e11⟩ := m_tellR hl a b c W.length hd s n
  refine ⟨τ', e1, e2, e3, e4, e5, e6, e7, e8, fun _ i hi => ?_⟩
  have z : i = 0 ∨ i = 1 ∨ i = 2 := by omega
  rcases z with z | z | z
  · subst z
    rw [show 3 * τ fM_lexes 0 0 + ((0 : Nat) : Int) = 3 * τ fM_lexes 0 0 by omega, e9, ha]
  · subst z
    rw [show 3 * τ fM_lexes 0 0 + ((1 : Nat) : Int) = 3 * τ fM_lexes 0 0 + 1 by omega, e10, hb hi]
  · subst z
    rw [show 3 * τ fM_lexes 0 0 + ((2 : Nat) : Int) = 3 * τ fM_lexes 0 0 + 2 by omega, e11, hc hi]
/-- the model marks the newest as long, or not -/
theorem MT_long {τ τ' : ga_S} {W : List (List Int)} {s n : Int} (h : MT τ τ' W 0 s n) (lg' : Int) : MT τ (ga_up τ' fM_lexLong 0 (τ fM_lexes 0 0) lg') W lg' s n := by
  obtain ⟨h1, h2, h3, h4, h5, h6, h7, h8⟩ := h
  refine ⟨fr_trans h1 (fr_u (by decide)), by rw [up_F (by decide)]; exact h2, ?_, by rw [up_F (by decide)]; exact h4, by rw [up_F (by decide)]; exact h5, by rw [up_F (by decide)]; exact h6, by rw [up_eq], ?_⟩
  · intro k h0 hk
    obtain ⟨a1, a2, a3, a4, a5⟩ := h3 k h0 hk
    exact ⟨by rw [up_F (by decide)]; exact a1, by rw [up_F (by decide)]; exact a2, by rw [up_F (by decide)]; exact a3, by rw [up_i (by omega)]; exact a4, fun i i0 i3 => by rw [up_F (by decide)]; exact a5 i i0 i3⟩
  · intro _ i hi
    rw [up_F (by decide)]; exact h8 (Or.inl rfl) i hi

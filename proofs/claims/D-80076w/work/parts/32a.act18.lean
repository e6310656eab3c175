/-! acts: contrary adjectives -/
section
variable {σ0 τ0 : ga_S} {f : Int} {N : Nat}
theorem m_meansA {σ τ : ga_S} (E : ENV σ0 τ0 f N ∧ TOK σ0 τ0 f N) (T : tkT τ0 τ) (R : RD σ τ) {r a b : Int} (hr : RU σ0 τ0 f N r a b) {d : Nat} (hd : 4 ≤ d) (ms : Int) : c_m_meansRun d τ r ms = some (mN σ (nmT σ0 a b) ms, τ) := by
  obtain ⟨d, rfl⟩ : ∃ e, d = e + 1 := ⟨d - 1, by omega⟩
  obtain ⟨hr0, hr1, hr2, hr3⟩ := hr
  have l := wsT_len (σ := σ0) hr3.2.1
  have w := tW_of (τ' := τ) ⟨E.1.1, E.1.2.1⟩ E.2 (T _ (by decide)) hr3
  have m := s_m_means R (d := d) (by omega) (wsT_W E.2 hr3) w ms
  rw [l] at m
  rw [e_m_meansRun, ck_ok _ hr0, ck_ok _ hr0, T fM_runFrom (by decide), T fM_runSize (by decide), hr1, hr2, m]
  rfl
theorem k_meanA {σ τ : ga_S} (E : ENV σ0 τ0 f N ∧ TOK σ0 τ0 f N) (S : tkS σ0 σ) (R : RD σ τ) {a b : Int} (h : frB σ0 N a b) {d : Nat} (hd : 4 ≤ d) (s : Int) : ∃ σ', c_r_mean d σ a b s = some (dN σ (nmT σ0 a b) s, σ') ∧ fr spL σ σ' := by
  obtain ⟨d, rfl⟩ : ∃ e, d = e + 1 := ⟨d - 1, by omega⟩
  obtain ⟨σ1, e1, e2, e3⟩ := k_spellA E S h (d := d) (by omega)
  have D := dic_c (σ := σ) (σ' := σ1) (fun F hF => fr_no e2 (M := dicL) (by decide) hF)
  refine ⟨σ1, ?_, e2⟩
  rw [e_r_mean, e1]
  simp only [Option.bind_some]
  rw [s_d_of (by omega) (D.2.2.2 R.1) e3.2.1 e3.2.2, D.2.1, e3.1, (dN_take R _).1]
  rfl
end
theorem nm_ne {σ τ : ga_S} {f : Int} {N : Nat} (T : TOK σ τ f N) {a b a' b' : Int} (h : frB σ N a b) (h' : frB σ N a' b') (e : nmT σ a b = nmT σ a' b') : wsT σ 0 a b = wsT σ 0 a' b' := jn_inj _ _ (wsW_1 (wsT_W T h)) (wsW_1 (wsT_W T h')) e
def adW : List Nat := [fW_adjectiveKinds, fW_contraries, fW_adjectives]
def adX : List Nat := [fM_adjectiveKind, fM_contrary, fM_definedTests, fM_adjectives]
/-- two adjectives that are contrary -/
theorem k_newAdjectives {σ : ga_S} {k A : Int} (hA : A = σ fW_adjectives 0 0) (h0 : 0 ≤ A) (h1 : A + 1 < 24) {d : Nat} (hd : 1 ≤ d) : ∃ σ', c_w_newAdjectives d σ k = some (A, σ') ∧ fr adW σ σ' ∧ σ' fW_adjectives 0 0 = A + 2 ∧ (∀ i, σ' fW_adjectiveKinds 0 i = if i = A ∨ i = A + 1 then k else σ fW_adjectiveKinds 0 i) ∧ (∀ i, σ' fW_contraries 0 i = if i = A then A + 1 else if i = A + 1 then A else σ fW_contraries 0 i) := by
  obtain ⟨d, rfl⟩ : ∃ e, d = e + 1 := ⟨d - 1, by omega⟩
  have run0 := e_w_newAdjectives d σ k
  rw [← hA, e_w_newAdjectives_7, w32_ok (x := A + 2) (by omega), if_pos (by omega), ck_ok _ (by omega), ck_ok _ (by omega), w32_ok (x := 2 * A) (by omega), w32_ok (x := 2 * A + 1) (by omega), w32_ok (x := 2 * A + 1 - A) (by omega), w32_ok (x := A + 1) (by omega)] at run0
  rw [e_w_newAdjectives_7, w32_ok (x := A + 2) (by omega), if_pos (by omega), ck_ok _ (by omega), ck_ok _ (by omega), w32_ok (x := 2 * A) (by omega), w32_ok (x := 2 * A + 1) (by omega), w32_ok (x := 2 * A + 1 - (A + 1)) (by omega), w32_ok (x := A + 1 + 1) (by omega)] at run0
  rw [e_w_newAdjectives_7, w32_ok (x := A + 2) (by omega), if_neg (by omega), up_F (by decide), up_F (by decide), up_F (by decide), up_F (by decide), ← hA, w32_ok (x := A + 2) (by omega), show 2 * A + 1 - A = A + 1 by omega, show 2 * A + 1 - (A + 1) = A by omega] at run0
  refine ⟨_, run0, ?_, by rw [up_eq], fun i => ?_, fun i => ?_⟩
  · exact fr_trans (fr_u (by decide)) (fr_trans (fr_u (by decide)) (fr_trans (fr_u (by decide)) (fr_trans (fr_u (by decide)) (fr_u (by decide)))))
  · rw [up_F (by decide), up_F (by decide)]
    by_cases c : i = A + 1
    · rw [c, up_eq, if_pos (Or.inr rfl)]
    · rw [up_i c, up_F (by decide)]
      by_cases c2 : i = A
      · rw [c2, up_eq, if_pos (Or.inl rfl)]
      · rw [up_i c2, if_neg (by omega)]
  · rw [up_F (by decide)]
    by_cases c : i = A + 1
    · rw [c, up_eq, if_neg (by omega), if_pos rfl]
    · rw [up_i c, up_F (by decide)]
      by_cases c2 : i = A
      · rw [c2, up_eq, if_pos rfl]
      · rw [up_i c2, up_F (by decide), if_neg c2, if_neg c]
theorem m_addAdjective {τ : ga_S} {k o A : Int} (hA : A = τ fM_adjectives 0 0) (h0 : 0 ≤ A) (h1 : A < 24) {d : Nat} (hd : 1 ≤ d) : ∃ τ', c_m_addAdjective d τ k o = some (A, τ') ∧ fr adX τ τ' ∧ τ' fM_adjectives 0 0 = A + 1 ∧ (∀ i, τ' fM_adjectiveKind 0 i = if i = A then k else τ fM_adjectiveKind 0 i) ∧ (∀ i, τ' fM_contrary 0 i = if i = A then o else τ fM_contrary 0 i) ∧ (∀ i, τ' fM_definedTests 0 i = if i = A then 0 else τ fM_definedTests 0 i) := by
  obtain ⟨d, rfl⟩ : ∃ e, d = e + 1 := ⟨d - 1, by omega⟩
  have run0 := e_m_addAdjective d τ k o
  rw [← hA, ck_ok _ (by omega), ck_ok _ (by omega), ck_ok _ (by omega), w32_ok (x := A + 1) (by omega), w32_ok (x := A + 1 - 1) (by omega), show A + 1 - 1 = A by omega] at run0
  refine ⟨_, run0, ?_, by rw [up_eq], fun i => ?_, fun i => ?_, fun i => ?_⟩
  · exact fr_trans (fr_u (by decide)) (fr_trans (fr_u (by decide)) (fr_trans (fr_u (by decide)) (fr_u (by decide))))
  · rw [up_F (by decide), up_F (by decide), up_F (by decide)]
    by_cases c : i = A
    · rw [c, up_eq, if_pos rfl]
    · rw [up_i c, if_neg c]
  · rw [up_F (by decide), up_F (by decide)]
    by_cases c : i = A
    · rw [c, up_eq, if_pos rfl]
    · rw [up_i c, if_neg c, up_F (by decide)]
  · rw [up_F (by decide)]
    by_cases c : i = A
    · rw [c, up_eq, if_pos rfl]
    · rw [up_i c, if_neg c, up_F (by decide), up_F (by decide)]
/-- more columns of adjectives, none told -/
theorem rowT_more {σ τ σ' τ' : ga_S} {F : Nat} {base r A : Int} (h : rowT σ τ F base r) (hA : A = σ fW_adjectives 0 0) (h0 : ∀ a, 0 ≤ a → a < A → σ fW_contraries 0 a = -1 ∨ (0 ≤ σ fW_contraries 0 a ∧ σ fW_contraries 0 a < A)) (ht : σ' fW_told = σ fW_told) (h1 : σ' fW_adjectives 0 0 = A + 2) (h2 : ∀ i, σ' fW_contraries 0 i = if i = A then A + 1 else if i = A + 1 then A else σ fW_contraries 0 i) (hF : τ' F = τ F) (hA' : 0 ≤ A ∧ A + 1 < 24) : rowT σ' τ' F base r := by
  intro a a0 a1
  have x := h a a0 a1
  have z : ∀ i, A ≤ i → i < 24 → σ fW_told r i = 0 ∧ τ F 0 (base + i) = 0 := by
    intro i i0 i1
    rcases (h i (by omega) i1).2 with y | y
    · exact absurd y.1 (by omega)
    · exact y.2
  have zA := z A (by omega) (by omega)
  have zB := z (A + 1) (by omega) (by omega)
  rw [ht, hF, h1, h2]
  refine ⟨x.1, ?_⟩
  by_cases c : a = A
  · left
    rw [if_pos c]
    refine ⟨by omega, by omega, ?_, Or.inl (by rw [c]; exact zA.1)⟩
    rw [c, zA.2]
    unfold tv
    rw [ht, h2, if_pos rfl, if_pos zA.1, if_pos zB.1]
  · rw [if_neg c]
    by_cases c2 : a = A + 1
    · left
      rw [if_pos c2]
      refine ⟨by omega, by omega, ?_, Or.inl (by rw [c2]; exact zB.1)⟩
      rw [c2, zB.2]
      unfold tv
      rw [ht, h2, if_neg (show ¬ A + 1 = A by omega), if_pos rfl, if_pos zB.1, if_pos zA.1]
    · rw [if_neg c2]
      rcases x.2 with y | y
      · left
        refine ⟨by omega, y.2.1, ?_, y.2.2.2⟩
        rw [y.2.2.1]
        unfold tv
        rw [ht, h2, if_neg c, if_neg c2]
      · right
        refine ⟨?_, y.2⟩
        rcases y.1 with w | w
        · left; omega
        · right; exact w

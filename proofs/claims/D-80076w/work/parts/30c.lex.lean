/-! how many names there can be -/
def MI (τ : ga_S) : Prop := ∀ k j, 0 ≤ k → k < τ fM_lexes 0 0 → 0 ≤ j → j < τ fM_lexes 0 0 → τ fM_lexSort 0 k = τ fM_lexSort 0 j → τ fM_lexIndex 0 k = τ fM_lexIndex 0 j → k = j
def lxZ (m : Int) : Int := if m = 0 then 16 else if m = 1 then 16 else if m = 2 then 8 else if m = 3 then 8 else if m = 4 then 24 else if m = 5 then 24 else if m = 6 then 64 else if m = 7 then 12 else if m = 8 then 6 else if m = 9 then 8 else if m = 10 then 8 else if m = 11 then 12 else 6
def lxO (m : Int) : Int := if m = 0 then 0 else if m = 1 then 16 else if m = 2 then 32 else if m = 3 then 40 else if m = 4 then 48 else if m = 5 then 72 else if m = 6 then 96 else if m = 7 then 160 else if m = 8 then 172 else if m = 9 then 178 else if m = 10 then 186 else if m = 11 then 194 else 206
def lxD (c : Int) : Int := if c < 16 then 0 else if c < 32 then 1 else if c < 40 then 2 else if c < 48 then 3 else if c < 72 then 4 else if c < 96 then 5 else if c < 160 then 6 else if c < 172 then 7 else if c < 178 then 8 else if c < 186 then 9 else if c < 194 then 10 else if c < 206 then 11 else 12
def lxR (m i : Int) : Prop := (0 ≤ m ∧ m ≤ 12) ∧ 0 ≤ i ∧ i < lxZ m
theorem lxR_d {m i : Int} (h : lxR m i) : lxD (lxO m + i) = m ∧ 0 ≤ lxO m + i ∧ lxO m + i < 212 := by
  obtain ⟨hm, h0, h⟩ := h
  have z : m = 0 ∨ m = 1 ∨ m = 2 ∨ m = 3 ∨ m = 4 ∨ m = 5 ∨ m = 6 ∨ m = 7 ∨ m = 8 ∨ m = 9 ∨ m = 10 ∨ m = 11 ∨ m = 12 := by omega
  rcases z with rfl | rfl | rfl | rfl | rfl | rfl | rfl | rfl | rfl | rfl | rfl | rfl | rfl
  · have h : i < 16 := h
    show lxD (0 + i) = 0 ∧ 0 ≤ 0 + i ∧ 0 + i < 212
    refine ⟨?_, by omega, by omega⟩
    unfold lxD
    rw [if_pos (show 0 + i < 16 by omega)]
  · have h : i < 16 := h
    show lxD (16 + i) = 1 ∧ 0 ≤ 16 + i ∧ 16 + i < 212
    refine ⟨?_, by omega, by omega⟩
    unfold lxD
    rw [if_neg (show ¬ 16 + i < 16 by omega), if_pos (show 16 + i < 32 by omega)]
  · have h : i < 8 := h
    show lxD (32 + i) = 2 ∧ 0 ≤ 32 + i ∧ 32 + i < 212
    refine ⟨?_, by omega, by omega⟩
    unfold lxD
    rw [if_neg (show ¬ 32 + i < 16 by omega), if_neg (show ¬ 32 + i < 32 by omega), if_pos (show 32 + i < 40 by omega)]
  · have h : i < 8 := h
    show lxD (40 + i) = 3 ∧ 0 ≤ 40 + i ∧ 40 + i < 212
    refine ⟨?_, by omega, by omega⟩
    unfold lxD
    rw [if_neg (show ¬ 40 + i < 16 by omega), if_neg (show ¬ 40 + i < 32 by omega), if_neg (show ¬ 40 + i < 40 by omega), if_pos (show 40 + i < 48 by omega)]
  · have h : i < 24 := h
    show lxD (48 + i) = 4 ∧ 0 ≤ 48 + i ∧ 48 + i < 212
    refine ⟨?_, by omega, by omega⟩
    unfold lxD
    rw [if_neg (show ¬ 48 + i < 16 by omega), if_neg (show ¬ 48 + i < 32 by omega), if_neg (show ¬ 48 + i < 40 by omega), if_neg (show ¬ 48 + i < 48 by omega), if_pos (show 48 + i < 72 by omega)]
  · have h : i < 24 := h
    show lxD (72 + i) = 5 ∧ 0 ≤ 72 + i ∧ 72 + i < 212
    refine ⟨?_, by omega, by omega⟩
    unfold lxD
    rw [if_neg (show ¬ 72 + i < 16 by omega), if_neg (show ¬ 72 + i < 32 by omega), if_neg (show ¬ 72 + i < 40 by omega), if_neg (show ¬ 72 + i < 48 by omega), if_neg (show ¬ 72 + i < 72 by omega), if_pos (show 72 + i < 96 by omega)]
  · have h : i < 64 := h
    show lxD (96 + i) = 6 ∧ 0 ≤ 96 + i ∧ 96 + i < 212
    refine ⟨?_, by omega, by omega⟩
    unfold lxD
    rw [if_neg (show ¬ 96 + i < 16 by omega), if_neg (show ¬ 96 + i < 32 by omega), if_neg (show ¬ 96 + i < 40 by omega), if_neg (show ¬ 96 + i < 48 by omega), if_neg (show ¬ 96 + i < 72 by omega), if_neg (show ¬ 96 + i < 96 by omega), if_pos (show 96 + i < 160 by omega)]
  · have h : i < 12 := h
    show lxD (160 + i) = 7 ∧ 0 ≤ 160 + i ∧ 160 + i < 212
    refine ⟨?_, by omega, by omega⟩
    unfold lxD
    rw [if_neg (show ¬ 160 + i < 16 by omega), if_neg (show ¬ 160 + i < 32 by omega), if_neg (show ¬ 160 + i < 40 by omega), if_neg (show ¬ 160 + i < 48 by omega), if_neg (show ¬ 160 + i < 72 by omega), if_neg (show ¬ 160 + i < 96 by omega), if_neg (show ¬ 160 + i < 160 by omega), if_pos (show 160 + i < 172 by omega)]
  · have h : i < 6 := h
    show lxD (172 + i) = 8 ∧ 0 ≤ 172 + i ∧ 172 + i < 212
    refine ⟨?_, by omega, by omega⟩
    unfold lxD
    rw [if_neg (show ¬ 172 + i < 16 by omega), if_neg (show ¬ 172 + i < 32 by omega), if_neg (show ¬ 172 + i < 40 by omega), if_neg (show ¬ 172 + i < 48 by omega), if_neg (show ¬ 172 + i < 72 by omega), if_neg (show ¬ 172 + i < 96 by omega), if_neg (show ¬ 172 + i < 160 by omega), if_neg (show ¬ 172 + i < 172 by omega), if_pos (show 172 + i < 178 by omega)]
  · have h : i < 8 := h
    show lxD (178 + i) = 9 ∧ 0 ≤ 178 + i ∧ 178 + i < 212
    refine ⟨?_, by omega, by omega⟩
    unfold lxD
    rw [if_neg (show ¬ 178 + i < 16 by omega), if_neg (show ¬ 178 + i < 32 by omega), if_neg (show ¬ 178 + i < 40 by omega), if_neg (show ¬ 178 + i < 48 by omega), if_neg (show ¬ 178 + i < 72 by omega), if_neg (show ¬ 178 + i < 96 by omega), if_neg (show ¬ 178 + i < 160 by omega), if_neg (show ¬ 178 + i < 172 by omega), if_neg (show ¬ 178 + i < 178 by omega), if_pos (show 178 + i < 186 by omega)]
  · have h : i < 8 := h
    show lxD (186 + i) = 10 ∧ 0 ≤ 186 + i ∧ 186 + i < 212
    refine ⟨?_, by omega, by omega⟩
    unfold lxD
    rw [if_neg (show ¬ 186 + i < 16 by omega), if_neg (show ¬ 186 + i < 32 by omega), if_neg (show ¬ 186 + i < 40 by omega), if_neg (show ¬ 186 + i < 48 by omega), if_neg (show ¬ 186 + i < 72 by omega), if_neg (show ¬ 186 + i < 96 by omega), if_neg (show ¬ 186 + i < 160 by omega), if_neg (show ¬ 186 + i < 172 by omega), if_neg (show ¬ 186 + i < 178 by omega), if_neg (show ¬ 186 + i < 186 by omega), if_pos (show 186 + i < 194 by omega)]
  · have h : i < 12 := h
    show lxD (194 + i) = 11 ∧ 0 ≤ 194 + i ∧ 194 + i < 212
    refine ⟨?_, by omega, by omega⟩
    unfold lxD
    rw [if_neg (show ¬ 194 + i < 16 by omega), if_neg (show ¬ 194 + i < 32 by omega), if_neg (show ¬ 194 + i < 40 by omega), if_neg (show ¬ 194 + i < 48 by omega), if_neg (show ¬ 194 + i < 72 by omega), if_neg (show ¬ 194 + i < 96 by omega), if_neg (show ¬ 194 + i < 160 by omega), if_neg (show ¬ 194 + i < 172 by omega), if_neg (show ¬ 194 + i < 178 by omega), if_neg (show ¬ 194 + i < 186 by omega), if_neg (show ¬ 194 + i < 194 by omega), if_pos (show 194 + i < 206 by omega)]
  · have h : i < 6 := h
    show lxD (206 + i) = 12 ∧ 0 ≤ 206 + i ∧ 206 + i < 212
    refine ⟨?_, by omega, by omega⟩
    unfold lxD
    rw [if_neg (show ¬ 206 + i < 16 by omega), if_neg (show ¬ 206 + i < 32 by omega), if_neg (show ¬ 206 + i < 40 by omega), if_neg (show ¬ 206 + i < 48 by omega), if_neg (show ¬ 206 + i < 72 by omega), if_neg (show ¬ 206 + i < 96 by omega), if_neg (show ¬ 206 + i < 160 by omega), if_neg (show ¬ 206 + i < 172 by omega), if_neg (show ¬ 206 + i < 178 by omega), if_neg (show ¬ 206 + i < 186 by omega), if_neg (show ¬ 206 + i < 194 by omega), if_neg (show ¬ 206 + i < 206 by omega)]
/-- there are not too many -/
def cB (σ : ga_S) : Prop := σ fW_kinds 0 0 ≤ 16 ∧ σ fW_objects 0 0 ≤ 24 ∧ σ fW_adjectives 0 0 ≤ 24 ∧ σ fW_types 0 0 ≤ 8 ∧ σ fW_values 0 0 ≤ 64 ∧ σ fW_properties 0 0 ≤ 12 ∧ σ fW_relations 0 0 ≤ 6 ∧ σ fW_verbs 0 0 ≤ 8 ∧ σ fW_actions 0 0 ≤ 12
theorem WK_cB {σ τ : ga_S} (W : WK σ τ) : cB σ := by
  obtain ⟨Wk, Wo, Wa, Wt, Wv, Wp, Wr, Wb, Wc, _, _⟩ := W
  exact ⟨Wk.1.1, Wo.2.1, Wa.2.1, Wt.2.1, Wv.2.1, Wp.2.1, Wr.2.1, Wb.2.1, Wc.2.1⟩
theorem lx_row {σ τ : ga_S} (R : RD σ τ) (B : cB σ) (Wd : WKd σ) {k' : Int} (h0 : 0 ≤ k') (hk : k' < τ fM_lexes 0 0) : lxR (τ fM_lexSort 0 k') (τ fM_lexIndex 0 k') := by
  obtain ⟨k, l, e⟩ := R.2.2.2.1 k' h0 hk
  obtain ⟨V, _, _, _, _, _, _, e1, e2⟩ := e
  have b := R.2.2.2.2.2.2.2 k l
  obtain ⟨k16, o24, a24, t8, v64, p12, r6, v8, c12⟩ := B
  have m := Wd k l
  rw [e1, e2]
  clear e1 e2 Wd
  obtain ⟨s, es⟩ : ∃ x, x = σ fD_sorts 0 k := ⟨_, rfl⟩
  obtain ⟨n, en⟩ : ∃ x, x = σ fD_numbers 0 k := ⟨_, rfl⟩
  rw [← es, ← en] at b m ⊢
  have z : s = 0 ∨ s = 1 ∨ s = 2 ∨ s = 3 ∨ s = 4 ∨ s = 5 ∨ s = 6 ∨ s = 7 ∨ s = 8 ∨ s = 9 ∨ s = 11 ∨ s = 12 := by omega
  clear es en
  have n0 := b.2.2.2.1
  obtain ⟨m1, m2⟩ := m
  rcases z with rfl | rfl | rfl | rfl | rfl | rfl | rfl | rfl | rfl | rfl | rfl | rfl
  · have m3 : n < σ fW_kinds 0 0 := m1
    have e2 : iM 0 n = n := by unfold iM; rw [if_neg (by omega)]
    rw [show sM 0 n = 0 from rfl, e2]; exact ⟨by decide, n0, show n < 16 by omega⟩
  · have m3 : n < σ fW_types 0 0 := m1
    have e2 : iM 1 n = n := by unfold iM; rw [if_neg (by omega)]
    rw [show sM 1 n = 2 from rfl, e2]; exact ⟨by decide, n0, show n < 8 by omega⟩
  · have m3 : n < σ fW_objects 0 0 := m1
    have e2 : iM 2 n = n := by unfold iM; rw [if_neg (by omega)]
    rw [show sM 2 n = 4 from rfl, e2]; exact ⟨by decide, n0, show n < 24 by omega⟩
  · have m3 : n < σ fW_adjectives 0 0 := m1
    have e2 : iM 3 n = n := by unfold iM; rw [if_neg (by omega)]
    rw [show sM 3 n = 5 from rfl, e2]; exact ⟨by decide, n0, show n < 24 by omega⟩
  · have m3 : n < σ fW_values 0 0 := m1
    have e2 : iM 4 n = n := by unfold iM; rw [if_neg (by omega)]
    rw [show sM 4 n = 6 from rfl, e2]; exact ⟨by decide, n0, show n < 64 by omega⟩
  · have m3 : n < σ fW_properties 0 0 := m1
    have e2 : iM 5 n = n := by unfold iM; rw [if_neg (by omega)]
    rw [show sM 5 n = 7 from rfl, e2]; exact ⟨by decide, n0, show n < 12 by omega⟩
  · have m3 : n < σ fW_relations 0 0 := m1
    have e2 : iM 6 n = n := by unfold iM; rw [if_neg (by omega)]
    rw [show sM 6 n = 8 from rfl, e2]; exact ⟨by decide, n0, show n < 6 by omega⟩
  · have m3 : n < σ fW_verbs 0 0 := m1
    have e2 : iM 7 n = n := by unfold iM; rw [if_neg (by omega)]
    rw [show sM 7 n = 9 from rfl, e2]; exact ⟨by decide, n0, show n < 8 by omega⟩
  · have m3 : n < σ fW_actions 0 0 := m1
    have e2 : iM 8 n = n := by unfold iM; rw [if_neg (by omega)]
    rw [show sM 8 n = 11 from rfl, e2]; exact ⟨by decide, n0, show n < 12 by omega⟩
  · have m3 : n < 6 := m1
    have e2 : iM 9 n = n := by unfold iM; rw [if_neg (by omega)]
    rw [show sM 9 n = 12 from rfl, e2]; exact ⟨by decide, n0, show n < 6 by omega⟩
  · have m3 := m2 rfl
    by_cases c : n < 100
    · have e1 : sM 11 n = 1 := by unfold sM; rw [if_neg (by decide), if_neg (by decide), if_neg (by decide), if_neg (by decide), if_neg (by decide), if_neg (by decide), if_neg (by decide), if_neg (by decide), if_neg (by decide), if_neg (by decide), if_pos rfl, if_pos c]
      have e2 : iM 11 n = n := by unfold iM; rw [if_neg (by omega)]
      rw [e1, e2]; exact ⟨by decide, n0, show n < 16 by omega⟩
    · have e1 : sM 11 n = 3 := by unfold sM; rw [if_neg (by decide), if_neg (by decide), if_neg (by decide), if_neg (by decide), if_neg (by decide), if_neg (by decide), if_neg (by decide), if_neg (by decide), if_neg (by decide), if_neg (by decide), if_pos rfl, if_neg c]
      have e2 : iM 11 n = n - 100 := by unfold iM; rw [if_pos (by omega)]
      rw [e1, e2]; exact ⟨by decide, by omega, show n - 100 < 8 by omega⟩
  · have m3 : n < σ fW_verbs 0 0 := m1
    have e2 : iM 12 n = n := by unfold iM; rw [if_neg (by omega)]
    rw [show sM 12 n = 10 from rfl, e2]; exact ⟨by decide, n0, show n < 8 by omega⟩
theorem lex_b {σ τ : ga_S} (R : RD σ τ) (B : cB σ) (Wd : WKd σ) (I : MI τ) : τ fM_lexes 0 0 ≤ 212 := by
  have h0 := R.2.1
  have := pigeon 212 (τ fM_lexes 0 0).toNat (fun i => (lxO (τ fM_lexSort 0 i) + τ fM_lexIndex 0 i).toNat) (fun i hi => by
      have := (lxR_d (lx_row R B Wd (k' := i) (by omega) (by omega))).2
      show (lxO (τ fM_lexSort 0 i) + τ fM_lexIndex 0 i).toNat < 212
      omega) (fun i j hi hj e => by
      have a := lxR_d (lx_row R B Wd (k' := i) (by omega) (by omega))
      have b := lxR_d (lx_row R B Wd (k' := j) (by omega) (by omega))
      have e' : lxO (τ fM_lexSort 0 i) + τ fM_lexIndex 0 i = lxO (τ fM_lexSort 0 j) + τ fM_lexIndex 0 j := by
        have : (lxO (τ fM_lexSort 0 i) + τ fM_lexIndex 0 i).toNat = (lxO (τ fM_lexSort 0 j) + τ fM_lexIndex 0 j).toNat := e
        omega
      have s : τ fM_lexSort 0 i = τ fM_lexSort 0 j := by rw [← a.1, ← b.1, e']
      have n : τ fM_lexIndex 0 i = τ fM_lexIndex 0 j := by rw [s] at e'; omega
      have := I i j (by omega) (by omega) (by omega) (by omega) s n
      omega)
  omega
/-- room in both dictionaries: g names were forgotten -/
def DB (σ τ : ga_S) (g : Int) : Prop := σ fD_count 0 0 = τ fM_lexes 0 0 + g ∧ σ fD_used 0 0 ≤ 40 * σ fD_count 0 0 ∧ MI τ ∧ 0 ≤ g
theorem DB_tell {σ τ σ' τ' : ga_S} {L : List Int} {W : List (List Int)} {lg s n ms im g : Int} (B : DB σ τ g) (R : RD σ τ) (D : DT σ σ' L s n) (M : MT τ τ' W lg ms im) (hL : L.length ≤ 40) (hms : ms = sM s n) (him : im = iM s n) (hs : s ≤ 12 ∧ 0 ≤ s ∧ s ≠ 10) (hn : 0 ≤ n) (hp : s = 11 → n < 16 ∨ 100 ≤ n) (hp' : ∀ k, live σ k → σ fD_sorts 0 k = 11 → σ fD_numbers 0 k < 16 ∨ 100 ≤ σ fD_numbers 0 k) (nn : ∀ k, live σ k → σ fD_sorts 0 k = s → σ fD_numbers 0 k ≠ n) : DB σ' τ' g := by
  obtain ⟨b1, b2, b3, b4⟩ := B
  obtain ⟨_, _, d1, d2, _⟩ := D
  obtain ⟨_, m1, m2, _, m4, m5, _, _⟩ := M
  have ne : ∀ k', 0 ≤ k' → k' < τ fM_lexes 0 0 → τ fM_lexSort 0 k' = ms → τ fM_lexIndex 0 k' ≠ im := by
    intro k' h0 hk e1 e2
    obtain ⟨k, l, V, _, _, _, _, _, _, e3, e4⟩ := R.2.2.2.1 k' h0 hk
    have b := R.2.2.2.2.2.2.2 k l
    have q := hp' k l
    have q2 := nn k l
    rw [e1, hms] at e3
    rw [e2, him] at e4
    obtain ⟨s2, es⟩ : ∃ x, x = σ fD_sorts 0 k := ⟨_, rfl⟩
    obtain ⟨n2, en⟩ : ∃ x, x = σ fD_numbers 0 k := ⟨_, rfl⟩
    rw [← es, ← en] at b q q2 e3 e4
    clear es en
    have z : s2 = 0 ∨ s2 = 1 ∨ s2 = 2 ∨ s2 = 3 ∨ s2 = 4 ∨ s2 = 5 ∨ s2 = 6 ∨ s2 = 7 ∨ s2 = 8 ∨ s2 = 9 ∨ s2 = 11 ∨ s2 = 12 := by omega
    have z' : s = 0 ∨ s = 1 ∨ s = 2 ∨ s = 3 ∨ s = 4 ∨ s = 5 ∨ s = 6 ∨ s = 7 ∨ s = 8 ∨ s = 9 ∨ s = 11 ∨ s = 12 := by omega
    have inv : ∀ x y : Int, (x = 0 ∨ x = 1 ∨ x = 2 ∨ x = 3 ∨ x = 4 ∨ x = 5 ∨ x = 6 ∨ x = 7 ∨ x = 8 ∨ x = 9 ∨ x = 11 ∨ x = 12) → x = (if sM x y = 0 then 0 else if sM x y = 2 then 1 else if sM x y = 4 then 2 else if sM x y = 5 then 3 else if sM x y = 6 then 4 else if sM x y = 7 then 5 else if sM x y = 8 then 6 else if sM x y = 9 then 7 else if sM x y = 11 then 8 else if sM x y = 12 then 9 else if sM x y = 10 then 12 else 11) := by
      intro x y hx
      unfold sM
      rcases hx with rfl | rfl | rfl | rfl | rfl | rfl | rfl | rfl | rfl | rfl | rfl | rfl <;> simp
      by_cases c : y < 100
      · simp [c]
      · simp [c]
    have es : s2 = s := by rw [inv s2 n2 z, inv s n z', e3]
    refine q2 es ?_
    unfold iM at e4
    unfold sM at e3
    rw [es] at e3 e4 q
    by_cases c : s = 11
    · rw [c] at e3 e4
      simp at e3 e4
      have q1 := q c
      have q3 := hp c
      by_cases c1 : 100 ≤ n <;> by_cases c2 : 100 ≤ n2
      · rw [if_pos c1, if_pos c2] at e4; omega
      · exfalso; rw [if_neg (by omega), if_pos (by omega)] at e3; omega
      · exfalso; rw [if_pos (by omega), if_neg (by omega)] at e3; omega
      · rw [if_neg c1, if_neg c2] at e4; omega
    · rw [if_neg (fun v => c v.1), if_neg (fun v => c v.1)] at e4; omega
  refine ⟨by omega, by omega, ?_, b4⟩
  intro k j k0 hk j0 hj e1 e2
  by_cases c : k = τ fM_lexes 0 0 <;> by_cases c2 : j = τ fM_lexes 0 0
  · omega
  · exfalso
    rw [c, m4, (m2 j j0 (by omega)).2.1] at e1
    rw [c, m5, (m2 j j0 (by omega)).2.2.1] at e2
    exact ne j j0 (by omega) e1.symm e2.symm
  · exfalso
    rw [c2, m4, (m2 k k0 (by omega)).2.1] at e1
    rw [c2, m5, (m2 k k0 (by omega)).2.2.1] at e2
    exact ne k k0 (by omega) e1 e2
  · rw [(m2 k k0 (by omega)).2.1, (m2 j j0 (by omega)).2.1] at e1
    rw [(m2 k k0 (by omega)).2.2.1, (m2 j j0 (by omega)).2.2.1] at e2
    exact b3 k j k0 (by omega) j0 (by omega) e1 e2

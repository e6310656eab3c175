/-! a word that is told: what the two dictionaries say afterwards -/
theorem DT_live {σ σ' : ga_S} {L : List Int} {s n : Int} (W : wfD σ) (D : DT σ σ' L s n) (hs : s ≠ -1) (k : Int) : live σ' k ↔ (live σ k ∨ k = σ fD_count 0 0) := by
  obtain ⟨_, _, d1, _, d3, _, d5, _, _⟩ := D
  have w0 := W.1
  constructor
  · intro ⟨h0, h1, h2⟩
    by_cases c : k = σ fD_count 0 0
    · exact Or.inr c
    · have hk : k < σ fD_count 0 0 := by omega
      refine Or.inl ⟨h0, hk, ?_⟩
      rw [← (d3 k h0 hk).2.1]; exact h2
  · intro h
    rcases h with ⟨h0, h1, h2⟩ | h
    · exact ⟨h0, by omega, by rw [(d3 k h0 h1).2.1]; exact h2⟩
    · rw [h]; exact ⟨w0, by omega, by rw [d5]; exact hs⟩
theorem fnd_tell {σ τ σ' : ga_S} {L : List Int} {s n : Int} (R : RD σ τ) (D : DT σ σ' L s n) (hs : s ≠ -1) (hn : fnd σ L 0 = -1) (nm : List Int) : fnd σ' nm 0 = if fnd σ nm 0 = -1 then (if nm = L then σ fD_count 0 0 else -1) else fnd σ nm 0 := by
  have lv := DT_live R.1 D hs
  obtain ⟨_, _, d1, _, d3, d4, d5, _, _⟩ := D
  have w0 := R.1.1
  by_cases c : fnd σ nm 0 = -1
  · rw [if_pos c]
    by_cases c2 : nm = L
    · rw [if_pos c2]
      rcases fnd_r (σ := σ') (nm := nm) (Int.le_refl 0) with e | e
      · exact absurd (d4.trans c2.symm) (fnd_n e _ w0 (by omega) (by rw [d5]; exact hs))
      · rcases (lv _).mp ⟨e.1, e.2.1, e.2.2.1⟩ with l | l
        · exact absurd (by rw [← (d3 _ l.1 l.2.1).1]; exact e.2.2.2) (fnd_n c _ l.1 l.2.1 l.2.2)
        · exact l
    · rw [if_neg c2]
      rcases fnd_r (σ := σ') (nm := nm) (Int.le_refl 0) with e | e
      · exact e
      · rcases (lv _).mp ⟨e.1, e.2.1, e.2.2.1⟩ with l | l
        · exact absurd (by rw [← (d3 _ l.1 l.2.1).1]; exact e.2.2.2) (fnd_n c _ l.1 l.2.1 l.2.2)
        · exact absurd (by rw [← e.2.2.2, l, d4]) c2
  · rw [if_neg c]
    have o := (fnd_r (σ := σ) (nm := nm) (Int.le_refl 0)).resolve_left c
    have ol : live σ (fnd σ nm 0) := ⟨o.1, o.2.1, o.2.2.1⟩
    rcases fnd_r (σ := σ') (nm := nm) (Int.le_refl 0) with e | e
    · have ol' := (lv _).mpr (Or.inl ol)
      exact absurd (by rw [(d3 _ ol.1 ol.2.1).1]; exact o.2.2.2) (fnd_n e _ ol'.1 ol'.2.1 ol'.2.2)
    · rcases (lv _).mp ⟨e.1, e.2.1, e.2.2.1⟩ with l | l
      · exact R.2.2.2.2.2.1 _ _ l ol (by rw [o.2.2.2, ← (d3 _ l.1 l.2.1).1]; exact e.2.2.2)
      · exfalso
        have z : nm = L := by rw [← e.2.2.2, l, d4]
        rw [z] at c; exact c hn
theorem sM_10 {s n : Int} (hs : 0 ≤ s ∧ s ≤ 12 ∧ s ≠ 10) (h : sM s n = 10) : s = 12 := by
  have z : s = 0 ∨ s = 1 ∨ s = 2 ∨ s = 3 ∨ s = 4 ∨ s = 5 ∨ s = 6 ∨ s = 7 ∨ s = 8 ∨ s = 9 ∨ s = 11 ∨ s = 12 := by omega
  unfold sM at h
  rcases z with rfl | rfl | rfl | rfl | rfl | rfl | rfl | rfl | rfl | rfl | rfl | rfl
  all_goals first
    | rfl
    | (exfalso; revert h; decide)
    | (exfalso; by_cases c : n < 100 <;> simp [c] at h)
/-- the form of a told name -/
def lgR (W : List (List Int)) (lg : Int) (L : List Int) : Prop := (lg = 0 ∧ L = jn W) ∨ (lg = 1 ∧ lastL W = 12 ∧ L = jn (addS W))
theorem RD_tell {σ τ σ' τ' : ga_S} {L : List Int} {W : List (List Int)} {lg s n ms im : Int} (R : RD σ τ) (D : DT σ σ' L s n) (M : MT τ τ' W lg ms im) (hl : τ fM_lexes 0 0 < 300) (hW : wsW W) (h1 : 1 ≤ W.length) (h3 : W.length ≤ 3) (g : lgR W lg L) (hL : L.length ≤ 40) (hms : ms = sM s n) (him : im = iM s n) (hs : 0 ≤ s ∧ s ≤ 12 ∧ s ≠ 10) (hn : 0 ≤ n ∧ n < 200) (new : fnd σ L 0 = -1) (nn : ∀ k, live σ k → σ fD_sorts 0 k = s → σ fD_numbers 0 k ≠ n) : RD σ' τ' := by
  have lv := DT_live R.1 D (by omega)
  obtain ⟨_, dw, d1, _, d3, d4, d5, d6, d7⟩ := D
  obtain ⟨_, m1, m2, m3, m4, m5, m6, m7⟩ := M
  obtain ⟨r1, r2, r3, r4, r5, r6, r7, r8⟩ := R
  have w0 := r1.1
  have old : ∀ k k', live σ k → 0 ≤ k' → k' < τ fM_lexes 0 0 → eM σ τ k k' → eM σ' τ' k k' := by
    intro k k' l h0 hk' ⟨V, v1, v2, v3, v4, v5, v6, v7, v8⟩
    obtain ⟨a1, a2, a3, a4, a5⟩ := m2 k' h0 (by omega)
    obtain ⟨b1, b2, b3, _⟩ := d3 k l.1 l.2.1
    refine ⟨V, v1, v2, v3, by rw [a1]; exact v4, fun q => ?_, by rw [a4, b1]; exact v6, by rw [a2, b2, b3]; exact v7, by rw [a3, b2, b3]; exact v8⟩
    intro i hi
    rw [a4, b2] at q
    rw [a5 i (by omega) (by omega)]; exact v5 q i hi
  have nw : eM σ' τ' (σ fD_count 0 0) (τ fM_lexes 0 0) := by
    refine ⟨W, hW, h1, h3, m3.symm, fun q => m7 (by rw [m6, d5] at q; rcases q with q | q; exact Or.inl q; exact Or.inr (fun z => q (sM_10 hs (hms.symm.trans z)))), ?_, by rw [m4, d5, d6]; exact hms, by rw [m5, d5, d6]; exact him⟩
    rw [m6, d4]; exact g
  refine ⟨dw, by omega, by omega, ?_, ?_, ?_, ?_, ?_⟩
  · intro k' h0 hk'
    by_cases c : k' = τ fM_lexes 0 0
    · exact ⟨_, (lv _).mpr (Or.inr rfl), by rw [c]; exact nw⟩
    · obtain ⟨k, l, e⟩ := r4 k' h0 (by omega)
      exact ⟨k, (lv _).mpr (Or.inl l), old k k' l h0 (by omega) e⟩
  · intro k l'
    rcases (lv _).mp l' with l | l
    · obtain ⟨k', h0, hk', e⟩ := r5 k l
      exact ⟨k', h0, by omega, old k k' l h0 hk' e⟩
    · exact ⟨_, r2, by omega, by rw [l]; exact nw⟩
  · intro k j lk lj e
    rcases (lv _).mp lk with l | l <;> rcases (lv _).mp lj with l2 | l2
    · rw [(d3 _ l.1 l.2.1).1, (d3 _ l2.1 l2.2.1).1] at e; exact r6 k j l l2 e
    · exfalso
      rw [(d3 _ l.1 l.2.1).1, l2, d4] at e
      exact fnd_n new k l.1 l.2.1 l.2.2 e
    · exfalso
      rw [(d3 _ l2.1 l2.2.1).1, l, d4] at e
      exact fnd_n new j l2.1 l2.2.1 l2.2.2 e.symm
    · rw [l, l2]
  · intro k j lk lj e1 e2
    rcases (lv _).mp lk with l | l <;> rcases (lv _).mp lj with l2 | l2
    · rw [(d3 _ l.1 l.2.1).2.1, (d3 _ l2.1 l2.2.1).2.1] at e1
      rw [(d3 _ l.1 l.2.1).2.2.1, (d3 _ l2.1 l2.2.1).2.2.1] at e2
      exact r7 k j l l2 e1 e2
    · exfalso
      rw [(d3 _ l.1 l.2.1).2.1, l2, d5] at e1
      rw [(d3 _ l.1 l.2.1).2.2.1, l2, d6] at e2
      exact nn k l e1 e2
    · exfalso
      rw [(d3 _ l2.1 l2.2.1).2.1, l, d5] at e1
      rw [(d3 _ l2.1 l2.2.1).2.2.1, l, d6] at e2
      exact nn j l2 e1.symm e2.symm
    · rw [l, l2]
  · intro k lk
    rcases (lv _).mp lk with l | l
    · obtain ⟨_, b2, b3, b4⟩ := d3 k l.1 l.2.1
      rw [b2, b3, b4]; exact r8 k l
    · rw [l, d5, d6, d7]; exact ⟨hs.1, hs.2.1, hs.2.2, hn.1, hn.2, by omega⟩
/-- what a name means afterwards -/
theorem dN_tell {σ τ σ' : ga_S} {L : List Int} {s n : Int} (R : RD σ τ) (D : DT σ σ' L s n) (hs : s ≠ -1) (hn : fnd σ L 0 = -1) (nm : List Int) (s' : Int) : dN σ' nm s' = if nm = L then (if s' = s then n else -1) else dN σ nm s' := by
  have F := fnd_tell R D hs hn nm
  have w0 := R.1.1
  obtain ⟨_, _, d1, _, d3, d4, d5, d6, _⟩ := D
  unfold dN
  rw [F]
  by_cases c : nm = L
  · rw [if_pos c, c, if_pos hn, if_pos rfl, d5, d6]
    by_cases c2 : s' = s
    · rw [if_pos c2, if_neg (by omega)]
    · rw [if_neg c2, if_pos (by omega)]
  · rw [if_neg c, if_neg c]
    by_cases c2 : fnd σ nm 0 = -1
    · rw [if_pos c2, if_pos (Or.inl rfl), if_pos (Or.inl c2)]
    · have o := (fnd_r (σ := σ) (nm := nm) (Int.le_refl 0)).resolve_left c2
      rw [if_neg c2, (d3 _ o.1 o.2.1).2.1, (d3 _ o.1 o.2.1).2.2.1]
theorem dS_tell {σ τ σ' : ga_S} {L : List Int} {s n : Int} (R : RD σ τ) (D : DT σ σ' L s n) (hs : s ≠ -1) (hn : fnd σ L 0 = -1) (nm : List Int) : dS σ' nm = if nm = L then s else dS σ nm := by
  have F := fnd_tell R D hs hn nm
  have w0 := R.1.1
  obtain ⟨_, _, d1, _, d3, d4, d5, d6, _⟩ := D
  unfold dS
  rw [F]
  by_cases c : nm = L
  · rw [if_pos c, c, if_pos hn, if_pos rfl, d5, if_neg (by omega)]
  · rw [if_neg c, if_neg c]
    by_cases c2 : fnd σ nm 0 = -1
    · rw [if_pos c2, if_pos rfl, if_pos c2]
    · have o := (fnd_r (σ := σ) (nm := nm) (Int.le_refl 0)).resolve_left c2
      rw [if_neg c2, (d3 _ o.1 o.2.1).2.1]
theorem WKd_tell {σ σ' : ga_S} {L : List Int} {s n : Int} (W : wfD σ) (D : DT σ σ' L s n) (hs : s ≠ -1) (h : WKd σ) (hm : n < mxN σ s) (hp : s = 11 → n < σ fW_kinds 0 0 ∨ (100 ≤ n ∧ n < 100 + σ fW_types 0 0)) : WKd σ' := by
  have lv := DT_live W D hs
  obtain ⟨df, _, d1, _, d3, d4, d5, d6, _⟩ := D
  have em : ∀ x, mxN σ' x = mxN σ x := by
    intro x
    unfold mxN
    rw [df fW_kinds (by decide), df fW_types (by decide), df fW_objects (by decide), df fW_adjectives (by decide), df fW_values (by decide), df fW_properties (by decide), df fW_relations (by decide), df fW_verbs (by decide), df fW_actions (by decide)]
  intro k lk
  rw [em, df fW_kinds (by decide), df fW_types (by decide)]
  rcases (lv _).mp lk with l | l
  · obtain ⟨_, b2, b3, _⟩ := d3 k l.1 l.2.1
    rw [b2, b3]; exact h k l
  · rw [l, d5, d6]; exact ⟨hm, hp⟩
theorem WKl_tell {σ τ σ' : ga_S} {L : List Int} {s n : Int} (R : RD σ τ) (D : DT σ σ' L s n) (hs : s ≠ -1) (hn : fnd σ L 0 = -1) (h : WKl σ) (hl : ∀ V : List (List Int), wsW V → lastL V = 12 → jn V ++ [115] = L → fnd σ (jn V) 0 ≠ -1 ∧ σ fD_sorts 0 (fnd σ (jn V) 0) ≠ 11) : WKl σ' := by
  intro V w1 w2 w3
  have F := fnd_tell R D hs hn
  have D3 := D.2.2.2.2.1
  have old : fnd σ (jn V) 0 ≠ -1 ∧ σ fD_sorts 0 (fnd σ (jn V) 0) ≠ 11 := by
    by_cases c : jn V ++ [115] = L
    · exact hl V w1 w2 c
    · refine h V w1 w2 (fun z => w3 ?_)
      rw [F, if_pos z, if_neg c]
  have o := (fnd_r (σ := σ) (nm := jn V) (Int.le_refl 0)).resolve_left old.1
  rw [F, if_neg old.1, (D3 _ o.1 o.2.1).2.1]
  exact old
/-- a name of tokens isn't a name with a last word of twelve letters and an s -/
theorem jn_no13 {W : List (List Int)} (hW : wsW W) (V : List (List Int)) (v1 : wsW V) (v2 : lastL V = 12) (e : jn V ++ [115] = jn W) : False := by
  have v0 : V ≠ [] := fun z => by rw [z] at v2; exact absurd v2 (by decide)
  have x : addS V = W := jn_inj _ _ (addS_W V (wsW_1 v1)) (wsW_1 hW) (by rw [jn_addS V v0]; exact e)
  have a := lastL_addS V v0
  have b := lastL_le W (fun w hw => (hW w hw).2.2)
  rw [x] at a
  omega
theorem pigeon : ∀ (m n : Nat) (g : Nat → Nat), (∀ i, i < n → g i < m) → (∀ i j, i < n → j < n → g i = g j → i = j) → n ≤ m := by
  intro m
  induction m with
  | zero =>
    intro n g h1 h2
    rcases Nat.eq_zero_or_pos n with z | z
    · omega
    · exact absurd (h1 0 z) (by omega)
  | succ m ih =>
    intro n g h1 h2
    by_cases c : ∃ i, i < n ∧ g i = m
    · obtain ⟨i, hi, gi⟩ := c
      have := ih (n - 1) (fun j => g (if j < i then j else j + 1)) (fun j hj => by
          show g (if j < i then j else j + 1) < m
          have hx : (if j < i then j else j + 1) < n ∧ (if j < i then j else j + 1) ≠ i := by split <;> omega
          have a := h1 _ hx.1
          have b : g (if j < i then j else j + 1) ≠ m := fun z => hx.2 (h2 _ _ hx.1 hi (z.trans gi.symm))
          omega) (fun a b ha hb e => by
          have hx : (if a < i then a else a + 1) < n := by split <;> omega
          have hy : (if b < i then b else b + 1) < n := by split <;> omega
          have z := h2 _ _ hx hy e
          split at z <;> split at z <;> omega)
      omega
    · have := ih n g (fun i hi => by
        have a := h1 i hi
        have b : g i ≠ m := fun z => c ⟨i, hi, z⟩
        omega) h2
      omega

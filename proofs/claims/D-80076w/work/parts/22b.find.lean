/-! entries -/
theorem s_d_spellS {σ : ga_S} {d : Nat} (hd : 2 ≤ d) {s : Int} (h0 : 0 ≤ am_len s) (hl : am_len s ≤ 1000) : ∃ σ2, c_d_spellS d σ s = some (0, σ2) ∧ fr spL σ σ2 ∧ σ2 fD_size 0 0 = am_len s ∧ (∀ j, 0 ≤ j → j < am_len s → σ2 fD_spelled 0 j = w8 (am_chr s j)) := by
  obtain ⟨d, rfl⟩ : ∃ e, d = e + 1 := ⟨d - 1, by omega⟩
  rw [e_d_spellS, s_p_len (by omega)]; simp only [Option.bind_some]
  exact s_d_spellS_10 (d := d) (by omega) hl 0 (by omega) h0 _ (fr_u (by decide)) (up_eq ..) (fun j a b => by omega)
/-- entries lie within the letters -/
def wfD (σ : ga_S) : Prop := 0 ≤ σ fD_count 0 0 ∧ σ fD_count 0 0 ≤ 640 ∧ 0 ≤ σ fD_used 0 0 ∧ σ fD_used 0 0 ≤ 24000 ∧ ∀ k, 0 ≤ k → k < σ fD_count 0 0 → 0 ≤ σ fD_froms 0 k ∧ 0 ≤ σ fD_sizes 0 k ∧ σ fD_froms 0 k + σ fD_sizes 0 k ≤ σ fD_used 0 0
theorem map_rg_eq {f g : Int → Int} {n : Int} : ∀ i, ((rg i n).map f = (rg i n).map g) ↔ ∀ j, i ≤ j → j < n → f j = g j := by
  refine rg_ind (n := n) ?_ ?_
  · intro i h
    rw [rg_n h]
    exact ⟨fun _ j a b => by omega, fun _ => rfl⟩
  · intro i h ih
    rw [rg_s h, List.map_cons, List.map_cons, List.cons.injEq, ih]
    constructor
    · intro ⟨a, b⟩ j h1 h2
      by_cases c : j = i
      · rw [c]; exact a
      · exact b j (by omega) h2
    · intro a
      exact ⟨a i (by omega) h, fun j h1 h2 => a j (by omega) h2⟩
theorem s_d_is_21 {σ : ga_S} (d : Nat) {k : Int} (hk : 0 ≤ k ∧ k < 640) (hf : 0 ≤ σ fD_froms 0 k ∧ σ fD_froms 0 k + σ fD_size 0 0 ≤ 24000) (hs : σ fD_size 0 0 ≤ 1000) : ∀ i, 0 ≤ i → (d_is_21 d σ k 0 i = some (0, σ)) ∧ (d_is_21 d σ k 1 i = some (b2i (decide (∀ j ∈ rg i (σ fD_size 0 0), σ fD_letters 0 (σ fD_froms 0 k + j) = σ fD_spelled 0 j)), σ)) := by
  refine rg_ind (n := σ fD_size 0 0) ?_ ?_
  · intro i h h0
    rw [e_d_is_21, if_neg (by omega), e_d_is_21, if_neg (by omega), z1_ok _ (by omega), z1_ok _ (by omega), rg_n h]
    exact ⟨rfl, by simp [b2i]⟩
  · intro i h ih h0
    have ih := ih (by omega)
    rw [e_d_is_21, if_pos h, if_pos (by decide), z1_ok _ (by omega)]
    refine ⟨rfl, ?_⟩
    rw [e_d_is_21, if_pos h, if_neg (by decide), ck_ok _ hk, w32_ok (by omega), ck_ok _ (by omega), ck_ok _ (by omega), rg_s h]
    by_cases c : σ fD_letters 0 (σ fD_froms 0 k + i) = σ fD_spelled 0 i
    · rw [if_pos c, e_d_is_60, w32_ok (by omega), ih.2]; simp [c]
    · rw [if_neg c, e_d_is_60, w32_ok (by omega), ih.1]; simp [c, b2i]
theorem s_d_is {σ : ga_S} {d : Nat} (hd : 1 ≤ d) (hW : wfD σ) (hs0 : 0 ≤ σ fD_size 0 0) (hs : σ fD_size 0 0 ≤ 1000) {k : Int} (hk0 : 0 ≤ k) (hk : k < σ fD_count 0 0) : c_d_is d σ k = some (b2i (decide (ent σ k = spl σ)), σ) := by
  obtain ⟨d, rfl⟩ : ∃ e, d = e + 1 := ⟨d - 1, by omega⟩
  have w := hW.2.2.2.2 k hk0 hk
  have hc := hW.2.1
  have hu := hW.2.2.2.1
  rw [e_d_is, ck_ok _ (by omega)]
  by_cases c : σ fD_sizes 0 k = σ fD_size 0 0
  · rw [if_pos c, e_d_is_18, (s_d_is_21 d ⟨hk0, by omega⟩ ⟨w.1, by omega⟩ hs 0 (by omega)).2]
    congr 3
    apply decide_eq_decide.mpr
    unfold ent spl
    rw [c, map_rg_eq]
    constructor
    · intro a j h1 h2; exact a j ((rg_mem 0).mpr ⟨h1, h2⟩)
    · intro a j hj; have := (rg_mem 0).mp hj; exact a j this.1 this.2
  · have ne : ¬ ent σ k = spl σ := by
      intro z
      have l1 : ((ent σ k).length : Int) = σ fD_sizes 0 k := by unfold ent; rw [List.length_map, rg_len, if_pos w.2.1]; omega
      have l2 := spl_len hs0
      rw [z, l2] at l1
      exact c l1.symm
    rw [if_neg c, e_d_is_18, decide_eq_false ne]
    by_cases c2 : 0 < σ fD_size 0 0
    · rw [e_d_is_21, if_pos c2, if_pos (by decide), z1_ok _ (by omega)]; rfl
    · rw [e_d_is_21, if_neg c2, z1_ok _ (by omega)]; rfl
/-- the entry of a name, from i on -/
def fnd (σ : ga_S) (nm : List Int) (i : Int) : Int := match (rg i (σ fD_count 0 0)).find? (fun k => decide (¬ σ fD_sorts 0 k = -1 ∧ ent σ k = nm)) with
  | some k => k
  | none => -1
theorem s_d_find_2 {σ : ga_S} {d : Nat} (hd : 1 ≤ d) (hW : wfD σ) (hs0 : 0 ≤ σ fD_size 0 0) (hs : σ fD_size 0 0 ≤ 1000) : ∀ i, 0 ≤ i → d_find_2 d σ i = some (fnd σ (spl σ) i, σ) := by
  have hc := hW.2.1
  refine rg_ind (n := σ fD_count 0 0) ?_ ?_
  · intro i h h0
    rw [e_d_find_2, if_neg (by omega)]; unfold fnd; rw [rg_n h]; rfl
  · intro i h ih h0
    have nx : d_find_30 d σ i = some (fnd σ (spl σ) (i + 1), σ) := by rw [e_d_find_30, w32_ok (by omega), ih (by omega)]
    rw [e_d_find_2, if_pos h, ck_ok _ (by omega)]
    unfold fnd
    rw [rg_s h, List.find?_cons]
    by_cases c : σ fD_sorts 0 i = -1
    · rw [if_pos c, nx]; simp [c, fnd]
    · rw [if_neg c, s_d_is hd hW hs0 hs h0 h]; simp only [Option.bind_some]
      by_cases c2 : ent σ i = spl σ
      · rw [decide_eq_true c2, if_neg (by decide)]; simp [c, c2]
      · rw [decide_eq_false c2, if_pos (by decide), nx]; simp [c2, fnd]
theorem s_d_find {σ : ga_S} {d : Nat} (hd : 2 ≤ d) (hW : wfD σ) (hs0 : 0 ≤ σ fD_size 0 0) (hs : σ fD_size 0 0 ≤ 1000) : c_d_find d σ = some (fnd σ (spl σ) 0, σ) := by
  obtain ⟨d, rfl⟩ : ∃ e, d = e + 1 := ⟨d - 1, by omega⟩
  rw [e_d_find, s_d_find_2 (by omega) hW hs0 hs 0 (by omega)]
theorem fnd_r {σ : ga_S} {nm : List Int} {i : Int} (h0 : 0 ≤ i) : fnd σ nm i = -1 ∨ (i ≤ fnd σ nm i ∧ fnd σ nm i < σ fD_count 0 0 ∧ σ fD_sorts 0 (fnd σ nm i) ≠ -1 ∧ ent σ (fnd σ nm i) = nm) := by
  unfold fnd
  cases e : (rg i (σ fD_count 0 0)).find? (fun k => decide (¬ σ fD_sorts 0 k = -1 ∧ ent σ k = nm)) with
  | none => exact Or.inl rfl
  | some k =>
    have a := (rg_mem i).mp (List.mem_of_find?_eq_some e)
    have b := List.find?_some e
    simp only [decide_eq_true_eq] at b
    exact Or.inr ⟨a.1, a.2, b.1, b.2⟩
theorem fnd_n {σ : ga_S} {nm : List Int} (h : fnd σ nm 0 = -1) : ∀ k, 0 ≤ k → k < σ fD_count 0 0 → σ fD_sorts 0 k ≠ -1 → ent σ k ≠ nm := by
  intro k h0 h1 h2 h3
  unfold fnd at h
  cases e : (rg 0 (σ fD_count 0 0)).find? (fun k => decide (¬ σ fD_sorts 0 k = -1 ∧ ent σ k = nm)) with
  | none =>
    have := List.find?_eq_none.mp e k ((rg_mem 0).mpr ⟨h0, h1⟩)
    simp [h2, h3] at this
  | some j =>
    rw [e] at h
    have a := (rg_mem 0).mp (List.mem_of_find?_eq_some e)
    simp at h
    omega
/-- the sort of a name; its number in a sort -/
def dS (σ : ga_S) (nm : List Int) : Int := if fnd σ nm 0 = -1 then -1 else σ fD_sorts 0 (fnd σ nm 0)
def dN (σ : ga_S) (nm : List Int) (s : Int) : Int := if fnd σ nm 0 = -1 ∨ ¬ σ fD_sorts 0 (fnd σ nm 0) = s then -1 else σ fD_numbers 0 (fnd σ nm 0)
theorem s_d_sort {σ : ga_S} {d : Nat} (hd : 3 ≤ d) (hW : wfD σ) (hs0 : 0 ≤ σ fD_size 0 0) (hs : σ fD_size 0 0 ≤ 1000) : c_d_sort d σ = some (dS σ (spl σ), σ) := by
  obtain ⟨d, rfl⟩ : ∃ e, d = e + 1 := ⟨d - 1, by omega⟩
  have hc := hW.2.1
  rw [e_d_sort, s_d_find (by omega) hW hs0 hs]; simp only [Option.bind_some]
  unfold dS
  by_cases c : fnd σ (spl σ) 0 = -1
  · rw [if_pos c, if_pos c]
  · have r := (fnd_r (σ := σ) (nm := spl σ) (Int.le_refl 0)).resolve_left c
    rw [if_neg c, if_neg c, ck_ok _ (by omega)]
theorem s_d_of {σ : ga_S} {d : Nat} (hd : 3 ≤ d) (hW : wfD σ) (hs0 : 0 ≤ σ fD_size 0 0) (hs : σ fD_size 0 0 ≤ 1000) (s : Int) : c_d_of d σ s = some (dN σ (spl σ) s, σ) := by
  obtain ⟨d, rfl⟩ : ∃ e, d = e + 1 := ⟨d - 1, by omega⟩
  have hc := hW.2.1
  rw [e_d_of, s_d_find (by omega) hW hs0 hs]; simp only [Option.bind_some]
  unfold dN
  by_cases c : fnd σ (spl σ) 0 = -1
  · rw [if_pos c, if_pos (Or.inl c), e_d_of_20]
  · have r := (fnd_r (σ := σ) (nm := spl σ) (Int.le_refl 0)).resolve_left c
    rw [if_neg c, ck_ok _ (by omega)]
    by_cases c2 : σ fD_sorts 0 (fnd σ (spl σ) 0) = s
    · rw [if_pos c2, ck_ok _ (by omega), if_neg (by simp [c, c2])]
    · rw [if_neg c2, e_d_of_20, if_pos (Or.inr c2)]
/-- the entry of a number in a sort, from i on -/
def enI (σ : ga_S) (s n i : Int) : Int := match (rg i (σ fD_count 0 0)).find? (fun k => decide (σ fD_sorts 0 k = s ∧ σ fD_numbers 0 k = n)) with
  | some k => k
  | none => -1
theorem s_d_entry_2 {σ : ga_S} (d : Nat) (hc : σ fD_count 0 0 ≤ 640) (s n : Int) : ∀ i, 0 ≤ i → d_entry_2 d σ s n i = some (enI σ s n i, σ) := by
  refine rg_ind (n := σ fD_count 0 0) ?_ ?_
  · intro i h h0
    rw [e_d_entry_2, if_neg (by omega)]; unfold enI; rw [rg_n h]; rfl
  · intro i h ih h0
    have nx : d_entry_32 d σ s n i = some (enI σ s n (i + 1), σ) := by rw [e_d_entry_32, w32_ok (by omega), ih (by omega)]
    rw [e_d_entry_2, if_pos h, ck_ok _ (by omega)]
    unfold enI
    rw [rg_s h, List.find?_cons]
    by_cases c : σ fD_sorts 0 i = s
    · rw [if_pos c, ck_ok _ (by omega)]
      by_cases c2 : σ fD_numbers 0 i = n
      · rw [if_pos c2]; simp [c, c2]
      · rw [if_neg c2, nx]; simp [c2, enI]
    · rw [if_neg c, nx]; simp [c, enI]
theorem s_d_entry {σ : ga_S} {d : Nat} (hd : 1 ≤ d) (hc : σ fD_count 0 0 ≤ 640) (s n : Int) : c_d_entry d σ s n = some (enI σ s n 0, σ) := by
  obtain ⟨d, rfl⟩ : ∃ e, d = e + 1 := ⟨d - 1, by omega⟩
  rw [e_d_entry, s_d_entry_2 d hc s n 0 (by omega)]
theorem enI_r {σ : ga_S} {s n : Int} : enI σ s n 0 = -1 ∨ (0 ≤ enI σ s n 0 ∧ enI σ s n 0 < σ fD_count 0 0 ∧ σ fD_sorts 0 (enI σ s n 0) = s ∧ σ fD_numbers 0 (enI σ s n 0) = n) := by
  unfold enI
  cases e : (rg 0 (σ fD_count 0 0)).find? (fun k => decide (σ fD_sorts 0 k = s ∧ σ fD_numbers 0 k = n)) with
  | none => exact Or.inl rfl
  | some k =>
    have a := (rg_mem 0).mp (List.mem_of_find?_eq_some e)
    have b := List.find?_some e
    simp only [decide_eq_true_eq] at b
    exact Or.inr ⟨a.1, a.2, b.1, b.2⟩
theorem enI_n {σ : ga_S} {s n : Int} (h : enI σ s n 0 = -1) : ∀ k, 0 ≤ k → k < σ fD_count 0 0 → ¬ (σ fD_sorts 0 k = s ∧ σ fD_numbers 0 k = n) := by
  intro k h0 h1 h2
  unfold enI at h
  cases e : (rg 0 (σ fD_count 0 0)).find? (fun k => decide (σ fD_sorts 0 k = s ∧ σ fD_numbers 0 k = n)) with
  | none =>
    have := List.find?_eq_none.mp e k ((rg_mem 0).mpr ⟨h0, h1⟩)
    simp [h2.1, h2.2] at this
  | some j =>
    rw [e] at h
    have a := (rg_mem 0).mp (List.mem_of_find?_eq_some e)
    simp at h
    omega

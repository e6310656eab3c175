/-! the world as at first: dictionaries as lists -/
def dz : List Int × Int × Int := ([], 0, 0)
theorem gd_l {α : Type} (E : List α) (x d : α) {k : Nat} (h : k < E.length) : (E ++ [x]).getD k d = E.getD k d := by
  simp [List.getD, List.getElem?_append_left h]
theorem gd_r {α : Type} (E : List α) (x d : α) : (E ++ [x]).getD E.length d = x := by
  simp [List.getD]
/-- the component's dictionary -/
def DL (σ : ga_S) (E : List (List Int × Int × Int)) : Prop := wfD σ ∧ σ fD_count 0 0 = (E.length : Int) ∧ σ fD_used 0 0 ≤ 40 * (E.length : Int) ∧ ∀ k : Nat, k < E.length → ent σ k = (E.getD k dz).1 ∧ σ fD_sorts 0 k = (E.getD k dz).2.1 ∧ σ fD_numbers 0 k = (E.getD k dz).2.2 ∧ σ fD_sizes 0 k = ((E.getD k dz).1.length : Int)
theorem DL_tell {σ σ' : ga_S} {E : List (List Int × Int × Int)} {L : List Int} {s n : Int} (h : DL σ E) (D : DT σ σ' L s n) (hL : L.length ≤ 40) : DL σ' (E ++ [(L, s, n)]) := by
  obtain ⟨h1, h2, h3, h4⟩ := h
  obtain ⟨_, d1, d2, d3, d4, d5, d6, d7, d8⟩ := D
  have len : ((E ++ [(L, s, n)]).length : Int) = (E.length : Int) + 1 := by rw [List.length_append]; push_cast; rfl
  refine ⟨d1, by rw [d2, h2, len], by rw [d3, len]; omega, fun k hk => ?_⟩
  by_cases c : k < E.length
  · have a := d4 k (by omega) (by omega)
    have b := h4 k c
    rw [gd_l _ _ _ c, a.1, a.2.1, a.2.2.1, a.2.2.2]
    exact b
  · have e : k = E.length := by
      have : (k : Int) < (E.length : Int) + 1 := by rw [← len]; omega
      omega
    subst e
    rw [gd_r, ← h2]
    exact ⟨d5, d6, d7, d8⟩
theorem DL_f {σ σ' : ga_S} {E : List (List Int × Int × Int)} (h : DL σ E) {M : List Nat} (f : fr M σ σ') (hM : dicL.all (fun F => !(M.contains F)) = true) : DL σ' E := by
  have e := fun F hF => fr_no f hM (F := F) hF
  unfold DL wfD ent at h ⊢
  rw [e fD_count (by decide), e fD_used (by decide), e fD_sorts (by decide), e fD_numbers (by decide), e fD_sizes (by decide), e fD_froms (by decide), e fD_letters (by decide)]
  exact h
/-- the model's dictionary -/
def ML (τ : ga_S) (E : List (List Int × Int × Int)) : Prop := τ fM_lexes 0 0 = (E.length : Int) ∧ ∀ k : Nat, k < E.length → τ fM_lexSize 0 k = 1 ∧ τ fM_lexSort 0 k = sM (E.getD k dz).2.1 (E.getD k dz).2.2 ∧ τ fM_lexIndex 0 k = iM (E.getD k dz).2.1 (E.getD k dz).2.2 ∧ τ fM_lexLong 0 k = 0 ∧ τ fM_lexWord 0 (3 * (k : Int)) = pack (E.getD k dz).1
theorem ML_tell {τ τ' : ga_S} {E : List (List Int × Int × Int)} {L : List Int} {s n ms mi : Int} (h : ML τ E) (D : MT τ τ' [L] 0 ms mi) (e1 : ms = sM s n) (e2 : mi = iM s n) : ML τ' (E ++ [(L, s, n)]) := by
  obtain ⟨h2, h4⟩ := h
  obtain ⟨_, d2, d4, d5, d6, d7, d8, d9⟩ := D
  have len : ((E ++ [(L, s, n)]).length : Int) = (E.length : Int) + 1 := by rw [List.length_append]; push_cast; rfl
  refine ⟨by rw [d2, h2, len], fun k hk => ?_⟩
  by_cases c : k < E.length
  · have a := d4 k (by omega) (by omega)
    have b := h4 k c
    have w := a.2.2.2.2 0 (by decide) (by decide)
    rw [Int.add_zero] at w
    rw [gd_l _ _ _ c, a.1, a.2.1, a.2.2.1, a.2.2.2.1, w]
    exact b
  · have e : k = E.length := by
      have : (k : Int) < (E.length : Int) + 1 := by rw [← len]; omega
      omega
    subst e
    have w := d9 (Or.inl rfl) 0 (show 0 < 1 from Nat.zero_lt_one)
    rw [show ((0 : Nat) : Int) = 0 from rfl, Int.add_zero] at w
    rw [gd_r, ← h2]
    exact ⟨d5, by rw [d6, e1], by rw [d7, e2], d8, w⟩
theorem ML_f {τ τ' : ga_S} {E : List (List Int × Int × Int)} (h : ML τ E) {M : List Nat} (f : fr M τ τ') (hM : lexL.all (fun F => !(M.contains F)) = true) : ML τ' E := by
  have e := fun F hF => fr_no f hM (F := F) hF
  unfold ML at h ⊢
  rw [e fM_lexes (by decide), e fM_lexSize (by decide), e fM_lexSort (by decide), e fM_lexIndex (by decide), e fM_lexLong (by decide), e fM_lexWord (by decide)]
  exact h
theorem rg_eq {w : List Int} {g : Int → Int} (h : ∀ j : Nat, j < w.length → g j = w.getD j 0) : (rg 0 (w.length : Int)).map g = w := by
  have hl : ((rg 0 (w.length : Int)).map g).length = w.length := by
    have := rg_len (n := (w.length : Int)) 0
    rw [if_pos (by omega)] at this
    rw [List.length_map]
    omega
  refine List.ext_getElem hl fun j h1 h2 => ?_
  have a := rg_getD g 0 j 0 (w.length : Int) (by omega)
  rw [Int.zero_add, h j h2] at a
  have b : ((rg 0 (w.length : Int)).map g).getD j 0 = ((rg 0 (w.length : Int)).map g)[j] := by rw [List.getD_eq_getElem?_getD, List.getElem?_eq_getElem h1]; rfl
  have c : w.getD j 0 = w[j] := by simp [List.getD, h2]
  rw [← b, a, c]
/-- a literal's letters -/
def lit (str : Int) (w : List Int) : Prop := am_txt str = w ∧ isW w ∧ w ≠ [] ∧ w.length ≤ 12
theorem w8_w {c : Int} (h : 97 ≤ c ∧ c ≤ 122) : w8 c = c := w8_ok (by omega)
theorem k_tellS {σ : ga_S} {str s n : Int} {w : List Int} (hw : lit str w) (W : wfD σ) (hc : σ fD_count 0 0 < 640) (hu : σ fD_used 0 0 + 40 ≤ 24000) {d : Nat} (hd : 4 ≤ d) : ∃ σ', c_w_tell d σ str s n = some (0, σ') ∧ DT σ σ' w s n := by
  obtain ⟨d, rfl⟩ : ∃ e, d = e + 1 := ⟨d - 1, by omega⟩
  obtain ⟨h1, h2, h3, h4⟩ := hw
  have ln : am_len str = (w.length : Int) := by unfold am_len; rw [h1]
  obtain ⟨σ2, e1, e2, e3, e4⟩ := s_d_spellS (σ := σ) (d := d) (by omega) (s := str) (by rw [ln]; omega) (by rw [ln]; omega)
  have A : AT σ2 w := by
    refine ⟨?_, by rw [e3, ln]; omega, by rw [e3, ln]; omega⟩
    unfold spl
    rw [e3, ln, List.take_of_length_le (by omega)]
    refine rg_eq (fun j hj => ?_)
    rw [e4 j (by omega) (by rw [ln]; omega)]
    unfold am_chr
    rw [h1, show ((j : Int)).toNat = j by omega]
    have : w.getD j 0 = w[j] := by simp [List.getD, hj]
    rw [this]
    exact w8_w (h2 _ (List.getElem_mem hj))
  obtain ⟨σ3, x1, x2, _⟩ := k_tell A (by omega) (by unfold wfD at W ⊢; rw [e2 _ (by decide), e2 _ (by decide), e2 _ (by decide), e2 _ (by decide)]; exact W) (by rw [e2 _ (by decide)]; exact hc) (by rw [e2 _ (by decide)]; exact hu) (d := d) (by omega) s n
  refine ⟨σ3, ?_, DT_pre e2 x2⟩
  rw [e_w_tell, e1]
  simp only [Option.bind_some]
  rw [x1]
  rfl
theorem p32 {i m : Nat} (h : i ≤ m) : (32 : Int) ^ i ≤ 32 ^ m := by
  induction h with
  | refl => exact Int.le_refl _
  | step _ ih =>
    rw [Int.pow_succ]
    have : (0 : Int) < 32 ^ i := Int.pow_pos (by decide)
    omega
theorem m_packS {τ : ga_S} {str : Int} {w : List Int} (h1 : am_txt str = w) (h2 : isW w) (h4 : w.length ≤ 12) {d : Nat} (hd : 2 ≤ d) : c_m_packed d τ str = some (pack w, τ) := by
  obtain ⟨d, rfl⟩ : ∃ e, d = e + 1 := ⟨d - 1, by omega⟩
  have ln : am_len str = (w.length : Int) := by unfold am_len; rw [h1]
  have lp : ∀ (m i : Nat), i + m = w.length → m_packed_4 d τ str (pack (w.take i)) i = some (pack w, τ) := by
    intro m
    induction m with
    | zero =>
      intro i hi
      have e : i = w.length := by omega
      subst e
      rw [e_m_packed_4, s_p_len (by omega)]
      simp only [Option.bind_some]
      rw [ln, if_neg (by omega), List.take_length]
    | succ m ih =>
      intro i hi
      have hj : i < w.length := by omega
      have hc := h2 _ (List.getElem_mem hj)
      have hW : isW (w.take i) := fun c hc => h2 c (List.mem_of_mem_take hc)
      have r := packF_r (w.take i) 0 0 hW (by omega) (by decide)
      have tl : (w.take i).length = i := by rw [List.length_take]; omega
      rw [tl] at r
      have big : (32 : Int) ^ (0 + i) ≤ 32 ^ 11 := p32 (by omega)
      have b2 : (32 : Int) ^ 11 = 36028797018963968 := by decide
      have ck : am_chr str i = w[i] := by
        unfold am_chr
        rw [h1, show ((i : Int)).toNat = i by omega]
        simp [List.getD, hj]
      have st : pack (w.take (i + 1)) = 32 * pack (w.take i) + (w[i] - 96) := by
        rw [List.take_succ_eq_append_getElem hj]
        unfold pack
        rw [packF_app]
        rfl
      have bp : pack (w.take i) = packF 0 (w.take i) := rfl
      rw [e_m_packed_4, s_p_len (by omega)]
      simp only [Option.bind_some]
      rw [ln, if_pos (by omega), s_p_chr (by omega) _ _ _ (by rw [ln]; omega)]
      simp only [Option.bind_some]
      rw [ck, w32_ok (x := w[i] - 96) (by omega), lor5 (by omega) (by omega) (by omega) (by omega), ← st, w32_ok (by omega), show (i : Int) + 1 = ((i + 1 : Nat) : Int) by push_cast; rfl]
      exact ih (i + 1) (by omega)
  rw [e_m_packed]
  exact lp w.length 0 (by omega)
theorem m_tellW {τ : ga_S} {str ms mi : Int} {w : List Int} (hw : lit str w) (hl : 0 ≤ τ fM_lexes 0 0 ∧ τ fM_lexes 0 0 < 300) {d : Nat} (hd : 3 ≤ d) : ∃ τ', c_m_tellWord d τ ms mi str = some (0, τ') ∧ MT τ τ' [w] 0 ms mi := by
  obtain ⟨d, rfl⟩ : ∃ e, d = e + 1 := ⟨d - 1, by omega⟩
  obtain ⟨h1, h2, h3, h4⟩ := hw
  obtain ⟨τ1, x1, x2⟩ := m_tell hl (W := [w]) (Nat.le_refl 1) (show 1 ≤ 3 by decide) (a := pack w) (b := 0) (c := 0) rfl (fun z => absurd z (show ¬ 1 < 1 by decide)) (fun z => absurd z (show ¬ 2 < 1 by decide)) (d := d) (by omega) ms mi
  refine ⟨τ1, ?_, x2⟩
  rw [e_m_tellWord, m_packS h1 h2 h4 (by omega)]
  simp only [Option.bind_some]
  have x1' : c_m_tell d τ ms mi (pack w) 0 0 1 = some (0, τ1) := x1
  rw [x1']
  rfl
/-- both dictionaries hold the same list -/
theorem RD_list {σ τ : ga_S} {E : List (List Int × Int × Int)} (A : DL σ E) (B : ML τ E) (hw : ∀ k : Nat, k < E.length → isW (E.getD k dz).1 ∧ (E.getD k dz).1 ≠ [] ∧ (E.getD k dz).1.length ≤ 12) (hs : ∀ k : Nat, k < E.length → 0 ≤ (E.getD k dz).2.1 ∧ (E.getD k dz).2.1 ≤ 12 ∧ (E.getD k dz).2.1 ≠ 10 ∧ 0 ≤ (E.getD k dz).2.2 ∧ (E.getD k dz).2.2 < 200) (h1 : ∀ k j : Nat, k < E.length → j < E.length → (E.getD k dz).1 = (E.getD j dz).1 → k = j) (h2 : ∀ k j : Nat, k < E.length → j < E.length → (E.getD k dz).2 = (E.getD j dz).2 → k = j) (hl : E.length ≤ 300) : RD σ τ := by
  obtain ⟨a1, a2, a3, a4⟩ := A
  obtain ⟨b1, b2⟩ := B
  have em : ∀ k : Nat, k < E.length → eM σ τ k k := by
    intro k hk
    obtain ⟨x1, x2, x3, x4⟩ := a4 k hk
    obtain ⟨y1, y2, y3, y4, y5⟩ := b2 k hk
    refine ⟨[(E.getD k dz).1], fun w h => ?_, Nat.le_refl 1, (show 1 ≤ 3 by decide), by rw [y1]; rfl, fun _ i hi => ?_, Or.inl ⟨y4, ?_⟩, by rw [y2, x2, x3], by rw [y3, x2, x3]⟩
    · rw [List.mem_singleton] at h; rw [h]; exact hw k hk
    · have : i = 0 := by simp at hi; omega
      subst this
      rw [show ((0 : Nat) : Int) = 0 from rfl, Int.add_zero]
      exact y5
    · rw [x1]; rfl
  have lv : ∀ k, live σ k → ∃ j : Nat, k = j ∧ j < E.length := fun k hk => ⟨k.toNat, by have := hk.1; omega, by have := hk.2.1; have := hk.1; omega⟩
  have vl : ∀ j : Nat, j < E.length → live σ j := fun j hj => ⟨by omega, by omega, by rw [(a4 j hj).2.1]; have := hs j hj; omega⟩
  refine ⟨a1, by omega, by omega, fun k' h0 h1 => ?_, fun k hk => ?_, fun k j hk hj e => ?_, fun k j hk hj e e' => ?_, fun k hk => ?_⟩
  · exact ⟨k', by
      have := vl k'.toNat (by omega)
      rw [show ((k'.toNat : Nat) : Int) = k' by omega] at this
      exact this, by
      have := em k'.toNat (by omega)
      rw [show ((k'.toNat : Nat) : Int) = k' by omega] at this
      exact this⟩
  · obtain ⟨j, rfl, hj⟩ := lv k hk
    exact ⟨j, by omega, by omega, em j hj⟩
  · obtain ⟨k, rfl, hk'⟩ := lv k hk
    obtain ⟨j, rfl, hj'⟩ := lv j hj
    rw [(a4 k hk').1, (a4 j hj').1] at e
    rw [h1 k j hk' hj' e]
  · obtain ⟨k, rfl, hk'⟩ := lv k hk
    obtain ⟨j, rfl, hj'⟩ := lv j hj
    rw [(a4 k hk').2.1, (a4 j hj').2.1] at e
    rw [(a4 k hk').2.2.1, (a4 j hj').2.2.1] at e'
    rw [h2 k j hk' hj' (Prod.ext e e')]
  · obtain ⟨k, rfl, hk'⟩ := lv k hk
    obtain ⟨x1, x2, x3, x4⟩ := a4 k hk'
    have := hs k hk'
    have := (hw k hk').2.2
    rw [x2, x3, x4]
    exact ⟨by omega, by omega, by omega, by omega, by omega, by omega⟩

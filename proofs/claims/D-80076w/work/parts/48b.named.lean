/-! words of a command are compared with letters, component -/
section
variable {σ : ga_S}
theorem k_isWL_28 {B : Int → Int} {k a len : Int} (hk : 0 ≤ k ∧ k < 50) (eB : σ fX_tape 0 = B) (hb : ∀ i, -128 ≤ B i ∧ B i < 128) (hf : 0 ≤ σ fX_wordFrom 0 k ∧ σ fX_wordFrom 0 k + len ≤ 5000) (ha : 0 ≤ a) (hc : a + len ≤ 24000) {d : Nat} (hd : 1 ≤ d) : x_isWord_letters_28 d σ k a len 0 0 = some (0, σ) ∧ ∀ i, 0 ≤ i → i ≤ len → (x_isWord_letters_28 d σ k a len 0 i = some (0, σ)) ∧ ∃ b, x_isWord_letters_28 d σ k a len 1 i = some (b2i b, σ) ∧ (b = true ↔ ∀ j, i ≤ j → j < len → lowB (B (σ fX_wordFrom 0 k + j)) = σ fD_letters 0 (a + j)) := by
  have z0 : ∀ i, x_isWord_letters_28 d σ k a len 0 i = some (0, σ) := by
    intro i
    rw [e_x_isWord_letters_28]
    by_cases c : i < len
    · rw [if_pos c, if_pos rfl, z1_ok _ (Or.inl rfl)]
    · rw [if_neg c, z1_ok _ (Or.inl rfl)]
  refine ⟨z0 0, ?_⟩
  refine rg_ind (n := len) (fun i h h0 h1 => ⟨z0 i, true, ?_, fun _ j j0 j1 => by omega, fun _ => rfl⟩) (fun i h ih h0 h1 => ⟨z0 i, ?_⟩)
  · rw [e_x_isWord_letters_28, if_neg (by omega), z1_ok _ (Or.inr rfl)]; rfl
  · obtain ⟨_, b, b1, b2⟩ := ih (by omega) (by omega)
    have st : ∀ r, (if lowB (B (σ fX_wordFrom 0 k + i)) = σ fD_letters 0 (a + i) then x_isWord_letters_67 d σ k a len i 1 else x_isWord_letters_67 d σ k a len i 0) = r → x_isWord_letters_28 d σ k a len 1 i = r := by
      intro r hr
      rw [e_x_isWord_letters_28, if_pos h, if_neg (by decide), ck_ok _ hk, w32_ok (x := σ fX_wordFrom 0 k + i) (by omega), k_xlow (by omega) (by rw [eB]; exact hb _) hd, Option.bind_some, w32_ok (x := a + i) (by omega), ck_ok _ (by omega), eB]
      exact hr
    by_cases c : lowB (B (σ fX_wordFrom 0 k + i)) = σ fD_letters 0 (a + i)
    · refine ⟨b, st _ ((if_pos c).trans ?_), fun hb j j0 j1 => ?_, fun hh => b2.mpr (fun j j0 j1 => hh j (by omega) j1)⟩
      · rw [e_x_isWord_letters_67, w32_ok (by omega)]; exact b1
      · by_cases ji : j = i
        · rw [ji]; exact c
        · exact b2.mp hb j (by omega) j1
    · refine ⟨false, st _ ((if_neg c).trans ?_), fun hb => (by cases hb), fun hh => absurd (hh i (Int.le_refl _) h) c⟩
      rw [e_x_isWord_letters_67, z0]; rfl
theorem k_isWL {B : Int → Int} {N k a len : Int} (S : CS σ B N) (hk : 0 ≤ k ∧ k < N) (eB : σ fX_tape 0 = B) (hb : ∀ i, -128 ≤ B i ∧ B i < 128) (ha : 0 ≤ a) (hl : 0 ≤ len) (hc : a + len ≤ 24000) {d : Nat} (hd : 2 ≤ d) : ∃ b, c_x_isWord_letters d σ k a len = some (b2i b, σ) ∧ (b = true ↔ vW σ B k = (rg 0 len).map (fun i => σ fD_letters 0 (a + i))) := by
  obtain ⟨d, rfl⟩ : ∃ e, d = e + 1 := ⟨d - 1, by omega⟩
  have S2 := S.2.1
  obtain ⟨s1, s2, s3, _⟩ := S.2.2 k hk.1 hk.2
  have st : ∀ r, (if σ fX_wordTo 0 k - σ fX_wordFrom 0 k = len then x_isWord_letters_28 d σ k a len 1 0 else x_isWord_letters_28 d σ k a len 0 0) = r → c_x_isWord_letters (d + 1) σ k a len = r := by
    intro r hr
    rw [e_x_isWord_letters, ck_ok _ (by omega), ck_ok _ (by omega), w32_ok (by omega), e_x_isWord_letters_23, e_x_isWord_letters_23]
    exact hr
  by_cases c : σ fX_wordTo 0 k - σ fX_wordFrom 0 k = len
  · obtain ⟨_, q⟩ := k_isWL_28 (k := k) (a := a) (len := len) (by omega) eB hb (by omega) ha hc (d := d) (by omega)
    obtain ⟨_, b, b1, b2⟩ := q 0 (Int.le_refl _) hl
    refine ⟨b, st _ ((if_pos c).trans b1), ?_⟩
    unfold vW wdB
    rw [c, b2]
    exact (map_rg_eq 0).symm
  · have z : x_isWord_letters_28 d σ k a len 0 0 = some (0, σ) := by
      rw [e_x_isWord_letters_28]
      by_cases c0 : (0 : Int) < len
      · rw [if_pos c0, if_pos rfl, z1_ok _ (Or.inl rfl)]
      · rw [if_neg c0, z1_ok _ (Or.inl rfl)]
    refine ⟨false, st _ ((if_neg c).trans z), fun hb => (by cases hb), fun hh => ?_⟩
    exfalso
    have l1 := congrArg List.length hh
    unfold vW wdB at l1
    rw [List.length_map, List.length_map] at l1
    have l2 := rg_len (n := σ fX_wordTo 0 k - σ fX_wordFrom 0 k) 0
    have l3 := rg_len (n := len) 0
    rw [if_pos (by omega)] at l2 l3
    omega
theorem k_isWC_28 {B : Int → Int} {k a len : Int} (hk : 0 ≤ k ∧ k < 50) (eB : σ fX_tape 0 = B) (hb : ∀ i, -128 ≤ B i ∧ B i < 128) (hf : 0 ≤ σ fX_wordFrom 0 k ∧ σ fX_wordFrom 0 k + len ≤ 5000) (ha : 0 ≤ a) (hc : a + len ≤ 3000) {d : Nat} (hd : 1 ≤ d) : x_isWord_commandLetters_28 d σ k a len 0 0 = some (0, σ) ∧ ∀ i, 0 ≤ i → i ≤ len → (x_isWord_commandLetters_28 d σ k a len 0 i = some (0, σ)) ∧ ∃ b, x_isWord_commandLetters_28 d σ k a len 1 i = some (b2i b, σ) ∧ (b = true ↔ ∀ j, i ≤ j → j < len → lowB (B (σ fX_wordFrom 0 k + j)) = σ fW_commandLetters 0 (a + j)) := by
  have z0 : ∀ i, x_isWord_commandLetters_28 d σ k a len 0 i = some (0, σ) := by
    intro i
    rw [e_x_isWord_commandLetters_28]
    by_cases c : i < len
    · rw [if_pos c, if_pos rfl, z1_ok _ (Or.inl rfl)]
    · rw [if_neg c, z1_ok _ (Or.inl rfl)]
  refine ⟨z0 0, ?_⟩
  refine rg_ind (n := len) (fun i h h0 h1 => ⟨z0 i, true, ?_, fun _ j j0 j1 => by omega, fun _ => rfl⟩) (fun i h ih h0 h1 => ⟨z0 i, ?_⟩)
  · rw [e_x_isWord_commandLetters_28, if_neg (by omega), z1_ok _ (Or.inr rfl)]; rfl
  · obtain ⟨_, b, b1, b2⟩ := ih (by omega) (by omega)
    have st : ∀ r, (if lowB (B (σ fX_wordFrom 0 k + i)) = σ fW_commandLetters 0 (a + i) then x_isWord_commandLetters_67 d σ k a len i 1 else x_isWord_commandLetters_67 d σ k a len i 0) = r → x_isWord_commandLetters_28 d σ k a len 1 i = r := by
      intro r hr
      rw [e_x_isWord_commandLetters_28, if_pos h, if_neg (by decide), ck_ok _ hk, w32_ok (x := σ fX_wordFrom 0 k + i) (by omega), k_xlow (by omega) (by rw [eB]; exact hb _) hd, Option.bind_some, w32_ok (x := a + i) (by omega), ck_ok _ (by omega), eB]
      exact hr
    by_cases c : lowB (B (σ fX_wordFrom 0 k + i)) = σ fW_commandLetters 0 (a + i)
    · refine ⟨b, st _ ((if_pos c).trans ?_), fun hb j j0 j1 => ?_, fun hh => b2.mpr (fun j j0 j1 => hh j (by omega) j1)⟩
      · rw [e_x_isWord_commandLetters_67, w32_ok (by omega)]; exact b1
      · by_cases ji : j = i
        · rw [ji]; exact c
        · exact b2.mp hb j (by omega) j1
    · refine ⟨false, st _ ((if_neg c).trans ?_), fun hb => (by cases hb), fun hh => absurd (hh i (Int.le_refl _) h) c⟩
      rw [e_x_isWord_commandLetters_67, z0]; rfl
theorem k_isWC {B : Int → Int} {N k a len : Int} (S : CS σ B N) (hk : 0 ≤ k ∧ k < N) (eB : σ fX_tape 0 = B) (hb : ∀ i, -128 ≤ B i ∧ B i < 128) (ha : 0 ≤ a) (hl : 0 ≤ len) (hc : a + len ≤ 3000) {d : Nat} (hd : 2 ≤ d) : ∃ b, c_x_isWord_commandLetters d σ k a len = some (b2i b, σ) ∧ (b = true ↔ vW σ B k = (rg 0 len).map (fun i => σ fW_commandLetters 0 (a + i))) := by
  obtain ⟨d, rfl⟩ : ∃ e, d = e + 1 := ⟨d - 1, by omega⟩
  have S2 := S.2.1
  obtain ⟨s1, s2, s3, _⟩ := S.2.2 k hk.1 hk.2
  have st : ∀ r, (if σ fX_wordTo 0 k - σ fX_wordFrom 0 k = len then x_isWord_commandLetters_28 d σ k a len 1 0 else x_isWord_commandLetters_28 d σ k a len 0 0) = r → c_x_isWord_commandLetters (d + 1) σ k a len = r := by
    intro r hr
    rw [e_x_isWord_commandLetters, ck_ok _ (by omega), ck_ok _ (by omega), w32_ok (by omega), e_x_isWord_commandLetters_23, e_x_isWord_commandLetters_23]
    exact hr
  by_cases c : σ fX_wordTo 0 k - σ fX_wordFrom 0 k = len
  · obtain ⟨_, q⟩ := k_isWC_28 (k := k) (a := a) (len := len) (by omega) eB hb (by omega) ha hc (d := d) (by omega)
    obtain ⟨_, b, b1, b2⟩ := q 0 (Int.le_refl _) hl
    refine ⟨b, st _ ((if_pos c).trans b1), ?_⟩
    unfold vW wdB
    rw [c, b2]
    exact (map_rg_eq 0).symm
  · have z : x_isWord_commandLetters_28 d σ k a len 0 0 = some (0, σ) := by
      rw [e_x_isWord_commandLetters_28]
      by_cases c0 : (0 : Int) < len
      · rw [if_pos c0, if_pos rfl, z1_ok _ (Or.inl rfl)]
      · rw [if_neg c0, z1_ok _ (Or.inl rfl)]
    refine ⟨false, st _ ((if_neg c).trans z), fun hb => (by cases hb), fun hh => ?_⟩
    exfalso
    have l1 := congrArg List.length hh
    unfold vW wdB at l1
    rw [List.length_map, List.length_map] at l1
    have l2 := rg_len (n := σ fX_wordTo 0 k - σ fX_wordFrom 0 k) 0
    have l3 := rg_len (n := len) 0
    rw [if_pos (by omega)] at l2 l3
    omega
/-- how many words of a name stand there -/
def nmV (σ : ga_S) (B : Int → Int) (N slot : Int) : Int → List (List Int) → Int
  | n, [] => n
  | n, w :: R => if slot + n < N ∧ vW σ B (slot + n) = w then nmV σ B N slot (n + 1) R else -1
theorem nmV_r {B : Int → Int} {N slot : Int} : ∀ (R : List (List Int)) (n : Int), 0 ≤ n → (R ≠ [] ∨ slot + n ≤ N) → (nmV σ B N slot n R = -1 ∧ ¬ (slot + n + R.length ≤ N ∧ ∀ j : Nat, j < R.length → vW σ B (slot + n + j) = R.getD j [])) ∨ (nmV σ B N slot n R = n + R.length ∧ slot + n + R.length ≤ N ∧ ∀ j : Nat, j < R.length → vW σ B (slot + n + j) = R.getD j [])
  | [], n, h0, h1 => by
    right
    refine ⟨by simp [nmV], by simpa using h1.resolve_left (fun z => z rfl), fun j hj => absurd hj (by simp)⟩
  | w :: R, n, h0, h1 => by
    unfold nmV
    by_cases c : slot + n < N ∧ vW σ B (slot + n) = w
    · rw [if_pos c]
      have sh : (slot + n + ((w :: R).length : Nat) ≤ N ∧ ∀ j : Nat, j < (w :: R).length → vW σ B (slot + n + j) = (w :: R).getD j []) ↔ (slot + (n + 1) + (R.length : Nat) ≤ N ∧ ∀ j : Nat, j < R.length → vW σ B (slot + (n + 1) + j) = R.getD j []) := by
        constructor
        · rintro ⟨x1, x2⟩
          refine ⟨by simp only [List.length_cons] at x1; push_cast at x1; omega, fun j hj => ?_⟩
          have := x2 (j + 1) (by simp only [List.length_cons]; omega)
          rw [show slot + n + ((j + 1 : Nat) : Int) = slot + (n + 1) + (j : Int) by push_cast; omega] at this
          simpa using this
        · rintro ⟨x1, x2⟩
          refine ⟨by simp only [List.length_cons]; push_cast; omega, fun j hj => ?_⟩
          cases j with
          | zero => simpa using c.2
          | succ j =>
            have := x2 j (by simp only [List.length_cons] at hj; omega)
            rw [show slot + (n + 1) + (j : Int) = slot + n + ((j + 1 : Nat) : Int) by push_cast; omega] at this
            simpa using this
      rcases nmV_r (N := N) (slot := slot) R (n + 1) (by omega) (Or.inr (by omega)) with ⟨a1, a2⟩ | ⟨a1, a2⟩
      · exact Or.inl ⟨a1, fun z => a2 (sh.mp z)⟩
      · refine Or.inr ⟨?_, sh.mpr a2⟩
        rw [a1]
        simp only [List.length_cons]; push_cast; omega
    · rw [if_neg c]
      refine Or.inl ⟨rfl, fun z => c ⟨?_, ?_⟩⟩
      · have := z.1
        simp only [List.length_cons] at this; push_cast at this; omega
      · have := z.2 0 (by simp)
        simpa using this
theorem k_nm41 {e c : Int} {slot a n : Int} (hc : c ≤ e) (he : e ≤ 24000) (h32 : c = e ∨ σ fD_letters 0 c = 32) (d : Nat) : ∀ q, 0 ≤ q → q ≤ c → (∀ j, q ≤ j → j < c → σ fD_letters 0 j ≠ 32) → x_named_41 d σ slot a e n q = x_named_66 d σ slot a e n c := by
  refine rg_ind (n := c) (fun q hq h0 h1 _ => ?_) (fun q hq ih h0 h1 hj => ?_)
  · have eq : q = c := by omega
    rw [eq, e_x_named_41]
    by_cases y : c < e
    · rw [if_pos y, ck_ok _ (by omega), if_pos (h32.resolve_left (by omega))]
    · rw [if_neg y]
  · rw [e_x_named_41, if_pos (by omega), ck_ok _ (by omega), if_neg (hj q (Int.le_refl _) hq), w32_ok (by omega)]
    exact ih (by omega) (by omega) (fun j j0 j1 => hj j (by omega) j1)
theorem k_named_l {B : Int → Int} {N slot e : Int} (S : CS σ B N) (eB : σ fX_tape 0 = B) (hb : ∀ i, -128 ≤ B i ∧ B i < 128) (hs : 0 ≤ slot ∧ slot < 50) (he : e ≤ 24000) {d : Nat} (hd : 2 ≤ d) : ∀ (R : List (List Int)) (n a : Int), 0 ≤ n → n + R.length ≤ 100 → 0 ≤ a → a ≤ e + 1 → (∀ w ∈ R, (∀ c ∈ w, c ≠ 32) ∧ w ≠ []) → (R = [] → e ≤ a) → (R ≠ [] → e = a + (jn R).length ∧ ∀ i : Nat, i < (jn R).length → σ fD_letters 0 (a + i) = (jn R).getD i 0) → x_named_30 d σ slot a e n = some (nmV σ B N slot n R, σ)
  | [], n, a, h0, h1, ha, ha1, hw, h2, h3 => by
    rw [e_x_named_30, if_neg (by have := h2 rfl; omega)]; rfl
  | w :: R, n, a, h0, h1, ha, ha1, hw, h2, h3 => by
    obtain ⟨e1, e2⟩ := h3 (by simp)
    have S2 := S.2.1
    have jl : (jn (w :: R)).length = w.length + (if R = [] then 0 else 1 + (jn R).length) := by
      cases R with
      | nil => simp [jn]
      | cons x r => rw [jn2]; simp [List.length_append]; omega
    have jg : ∀ i : Nat, i < w.length → (jn (w :: R)).getD i 0 = w.getD i 0 := by
      intro i hi
      cases R with
      | nil => rfl
      | cons x r =>
        rw [jn2, List.getD_eq_getElem?_getD, List.getD_eq_getElem?_getD, List.getElem?_append_left hi]
    obtain ⟨m, em⟩ : ∃ m : Int, m = w.length := ⟨_, rfl⟩
    have hm : a + m ≤ e := by rw [e1, jl, em]; push_cast; split <;> omega
    have lw : ∀ j : Int, a ≤ j → j < a + m → σ fD_letters 0 j = w.getD (j - a).toNat 0 := by
      intro j j0 j1
      have := e2 (j - a).toNat (by rw [jl]; omega)
      rw [show a + ((j - a).toNat : Int) = j by omega, jg _ (by omega)] at this
      exact this
    have n32 : ∀ j : Int, a ≤ j → j < a + m → σ fD_letters 0 j ≠ 32 := by
      intro j j0 j1
      rw [lw j j0 j1]
      have hl : (j - a).toNat < w.length := by omega
      rw [List.getD_eq_getElem?_getD, List.getElem?_eq_getElem hl]
      exact (hw w (by simp)).1 _ (List.getElem_mem hl)
    have h32 : a + m = e ∨ σ fD_letters 0 (a + m) = 32 := by
      cases R with
      | nil =>
        left
        rw [e1, jl, em]; simp
      | cons x r =>
        right
        have := e2 w.length (by rw [jl, if_neg (by simp)]; omega)
        rw [← em] at this
        rw [this, jn2, List.getD_eq_getElem?_getD, List.getElem?_append_right (Nat.le_refl _)]
        simp
    have wl : (rg 0 m).map (fun i => σ fD_letters 0 (a + i)) = w := by
      have ln : ((rg 0 m).map (fun i => σ fD_letters 0 (a + i))).length = w.length := by
        rw [List.length_map]
        have := rg_len (n := m) 0
        rw [if_pos (by omega)] at this
        omega
      refine List.ext_getElem? fun i => ?_
      by_cases hi : i < w.length
      · have h1 := rg_getD (fun i => σ fD_letters 0 (a + i)) 0 i 0 m (by omega)
        rw [List.getD_eq_getElem?_getD, List.getElem?_eq_getElem (by omega)] at h1
        rw [List.getElem?_eq_getElem (by omega), List.getElem?_eq_getElem hi]
        have h2 := lw (a + i) (by omega) (by omega)
        rw [show (a + (i : Int) - a).toNat = i by omega, List.getD_eq_getElem?_getD, List.getElem?_eq_getElem hi] at h2
        have h3 : (0 : Int) + (i : Int) = i := by omega
        rw [h3] at h1
        exact congrArg some (h1.trans h2)
      · rw [List.getElem?_eq_none (by omega), List.getElem?_eq_none (by omega)]
    have m0 : 0 < m := by
      have h1 := (hw w (by simp)).2
      have h2 : 0 < w.length := List.length_pos_iff.mpr h1
      omega
    have nv : nmV σ B N slot n (w :: R) = if slot + n < N ∧ vW σ B (slot + n) = w then nmV σ B N slot (n + 1) R else -1 := by rw [nmV]
    have hn1 : n + ((w :: R).length : Nat) ≤ 100 := h1
    rw [List.length_cons] at hn1
    rw [e_x_named_30, if_pos (by omega), k_nm41 hm he h32 d a ha (by omega) n32, e_x_named_66, w32_ok (x := slot + n) (by omega), S.1, nv]
    by_cases c1 : slot + n < N
    · rw [if_pos c1, w32_ok (x := a + m - a) (by omega), show a + m - a = m by omega]
      obtain ⟨b, b1, b2⟩ := k_isWL S (k := slot + n) ⟨by omega, c1⟩ eB hb ha (len := m) (by omega) (by omega) hd
      rw [b1, Option.bind_some]
      rw [wl] at b2
      cases b with
      | true =>
        refine (if_neg b2i_n).trans ?_
        show x_named_30 d σ slot (w32 (a + m + 1)) e (w32 (n + 1)) = _
        rw [if_pos ⟨c1, b2.mp rfl⟩, w32_ok (x := a + m + 1) (by omega), w32_ok (x := n + 1) (by omega)]
        refine k_named_l S eB hb hs he hd R (n + 1) (a + m + 1) (by omega) (by push_cast at hn1; omega) (by omega) (by omega) (fun w' hw' => hw w' (by simp [hw'])) (fun er => ?_) (fun er => ?_)
        · rw [e1, jl, if_pos er]; push_cast; omega
        · refine ⟨by rw [e1, jl, if_neg er]; push_cast; omega, fun i hi => ?_⟩
          have := e2 (w.length + 1 + i) (by rw [jl, if_neg er]; omega)
          rw [show a + ((w.length + 1 + i : Nat) : Int) = a + m + 1 + (i : Int) by push_cast; omega] at this
          rw [this]
          cases R with
          | nil => exact absurd rfl er
          | cons x r =>
            rw [jn2, List.getD_eq_getElem?_getD, List.getD_eq_getElem?_getD, List.getElem?_append_right (by omega), show w.length + 1 + i - w.length = i + 1 by omega, List.getElem?_cons_succ]
      | false =>
        refine (if_pos b2i_f).trans ?_
        rw [if_neg (fun z => by have := b2.mpr z.2; cases this)]
    · rw [if_neg c1, if_neg (fun z => c1 z.1)]
end

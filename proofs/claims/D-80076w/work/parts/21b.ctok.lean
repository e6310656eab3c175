/-! the component's tokens: blanks, letters, figures -/
theorem up_comm {F F' : Nat} (h : F ≠ F') (σ : ga_S) (n i v n' i' v' : Int) : ga_up (ga_up σ F n i v) F' n' i' v' = ga_up (ga_up σ F' n' i' v') F n i v := by
  funext G m j
  unfold ga_up
  by_cases c : G = F' ∧ m = n' ∧ j = i'
  · have nn : ¬ (G = F ∧ m = n ∧ j = i) := fun z => h (z.1.symm.trans c.1)
    rw [if_pos c, if_neg nn, if_pos c]
  · rw [if_neg c, if_neg c]
theorem s_t_blanks_45 {σ : ga_S} (d : Nat) {v : Int} (hv : 0 ≤ v) (hn : σ fT_size v 0 ≤ 5000) : ∀ q, 0 ≤ q → t_blanks_45 d σ v 1 q = t_blanks_70 d σ v 1 (sk (fun q => decide (¬ σ fT_bytes v q = 93)) (σ fT_size v 0) q) := by
  refine rg_ind (n := σ fT_size v 0) ?_ ?_
  · intro q h h0
    rw [e_t_blanks_45, nn_ok _ hv, if_neg (by omega), sk_n h]
  · intro q h ih h0
    rw [e_t_blanks_45, nn_ok _ hv, if_pos h, nn_ok _ hv, nn_ok _ hv, ck_ok _ (by omega)]
    by_cases c : σ fT_bytes v q = 93
    · rw [if_pos c, sk_x h (by simp [c])]
    · rw [if_neg c, w32_ok (by omega), ih (by omega), sk_s h (by simp [c])]
/-- the flag of texts -/
def inT (σ : ga_S) (v : Int) : Bool := decide (¬ σ fT_inText v 0 = 0)
def fineB (B : Int → Int) (x : Bool) (n p : Int) : Bool := decide (¬ (p < n ∧ B p = 91 ∧ x = false))
theorem s_t_blanks_2 {σ : ga_S} (d : Nat) {v : Int} (hv : 0 ≤ v) (hn : σ fT_size v 0 ≤ 5000) : ∀ p, 0 ≤ p → p ≤ 5002 → t_blanks_2 d (ga_up σ fT_at v 0 p) v 1 = some (b2i (fineB (σ fT_bytes v) (inT σ v) (σ fT_size v 0) (bl (σ fT_bytes v) (inT σ v) (σ fT_size v 0) p)), ga_up σ fT_at v 0 (bl (σ fT_bytes v) (inT σ v) (σ fT_size v 0) p)) := by
  have u : ∀ p F, F ≠ fT_at → (ga_up σ fT_at v 0 p) F = σ F := fun p F hF => up_F hF σ v 0 p
  refine pos_ind (σ fT_size v 0) ?_
  intro p ih h0 h5
  rw [e_t_blanks_2, if_neg (by decide), nn_ok _ hv, nn_ok _ hv, up_eq, u p fT_size (by decide)]
  by_cases h : p < σ fT_size v 0
  · rw [if_pos h, nn_ok _ hv, nn_ok _ hv, nn_ok _ hv, ck_ok _ (by omega), u p fT_bytes (by decide), bl_s h]
    have nine : ∀ b : Int, σ fT_bytes v p = b → isBl b = true → ¬ b = 91 → t_blanks_114 d (ga_up σ fT_at v 0 p) v 1 = some (b2i (fineB (σ fT_bytes v) (inT σ v) (σ fT_size v 0) (bl (σ fT_bytes v) (inT σ v) (σ fT_size v 0) (p + 1))), ga_up σ fT_at v 0 (bl (σ fT_bytes v) (inT σ v) (σ fT_size v 0) (p + 1))) := by
      intro b hb h1 h2
      rw [e_t_blanks_114, nn_ok _ hv, nn_ok _ hv, up_eq, up_up, w32_ok (by omega), e_t_blanks_129, ih (p + 1) (by omega) h (by omega) (by omega)]
    have rest : ¬ (σ fT_bytes v p = 91 ∧ inT σ v = false) → t_blanks_90 d (ga_up σ fT_at v 0 p) v 1 (σ fT_bytes v p) = some (b2i (fineB (σ fT_bytes v) (inT σ v) (σ fT_size v 0) (if isBl (σ fT_bytes v p) = true then bl (σ fT_bytes v) (inT σ v) (σ fT_size v 0) (p + 1) else p)), ga_up σ fT_at v 0 (if isBl (σ fT_bytes v p) = true then bl (σ fT_bytes v) (inT σ v) (σ fT_size v 0) (p + 1) else p)) := by
      intro hx
      rw [e_t_blanks_90]
      by_cases c1 : σ fT_bytes v p = 9
      · rw [if_pos c1, nine 9 c1 (by decide) (by decide), if_pos (by simp [isBl, c1])]
      · rw [if_neg c1]
        by_cases c2 : σ fT_bytes v p = 10
        · rw [if_pos c2, nine 10 c2 (by decide) (by decide), if_pos (by simp [isBl, c2])]
        · rw [if_neg c2]
          by_cases c3 : σ fT_bytes v p = 13
          · rw [if_pos c3, nine 13 c3 (by decide) (by decide), if_pos (by simp [isBl, c3])]
          · rw [if_neg c3]
            by_cases c4 : σ fT_bytes v p = 32
            · rw [if_pos c4, nine 32 c4 (by decide) (by decide), if_pos (by simp [isBl, c4])]
            · have nb : ¬ isBl (σ fT_bytes v p) = true := by simp [isBl, c1, c2, c3, c4]
              rw [if_neg c4, e_t_blanks_129, e_t_blanks_2, if_pos (by decide), if_neg nb]
              have e : fineB (σ fT_bytes v) (inT σ v) (σ fT_size v 0) p = true := decide_eq_true (fun z => hx ⟨z.2.1, z.2.2⟩)
              rw [e]; rfl
    by_cases c5 : σ fT_bytes v p = 91
    · rw [if_pos c5, nn_ok _ hv, u p fT_inText (by decide)]
      by_cases c6 : σ fT_inText v 0 = 0
      · have ex : inT σ v = false := by simp [inT, c6]
        rw [if_pos c6, nn_ok _ hv, s_t_blanks_45 d hv (by rw [u p fT_size (by decide)]; exact hn) p h0, u p fT_bytes (by decide), u p fT_size (by decide), e_t_blanks_70, nn_ok _ hv, u p fT_size (by decide), if_pos (show σ fT_bytes v p = 91 ∧ inT σ v = false from ⟨c5, ex⟩)]
        have hc := sk_all (f := fun q => decide (¬ σ fT_bytes v q = 93)) (n := σ fT_size v 0) p
        by_cases c7 : clo (σ fT_bytes v) (σ fT_size v 0) p < σ fT_size v 0
        · have c8 : ¬ sk (fun q => decide (¬ σ fT_bytes v q = 93)) (σ fT_size v 0) p = σ fT_size v 0 := by unfold clo at c7; omega
          rw [if_neg c8, if_pos c7, nn_ok _ hv, e_t_blanks_129, up_up]
          show t_blanks_2 d (ga_up σ fT_at v 0 (w32 (clo _ _ p + 1))) v 1 = _
          rw [w32_ok (by unfold clo at *; omega), ih _ (by unfold clo; omega) h (by unfold clo; omega) (by omega)]
        · have c8 : sk (fun q => decide (¬ σ fT_bytes v q = 93)) (σ fT_size v 0) p = σ fT_size v 0 := by unfold clo at c7; omega
          rw [if_pos c8, if_neg c7]
          have e : fineB (σ fT_bytes v) (inT σ v) (σ fT_size v 0) p = false := decide_eq_false (fun z => z ⟨h, c5, ex⟩)
          rw [e]; rfl
      · have ex : inT σ v = true := by simp [inT, c6]
        rw [if_neg c6, rest (by simp [ex]), if_neg (show ¬ (σ fT_bytes v p = 91 ∧ inT σ v = false) by simp [ex])]
    · rw [if_neg c5, rest (fun z => c5 z.1), if_neg (show ¬ (σ fT_bytes v p = 91 ∧ inT σ v = false) from fun z => c5 z.1)]
  · have e : fineB (σ fT_bytes v) (inT σ v) (σ fT_size v 0) p = true := decide_eq_true (fun z => h z.1)
    rw [if_neg h, bl_n (by omega), e]; rfl
theorem s_t_blanks {σ : ga_S} {d : Nat} (hd : 1 ≤ d) {v : Int} (hv : 0 ≤ v) (hn : σ fT_size v 0 ≤ 5000) (h0 : 0 ≤ σ fT_at v 0) (h5 : σ fT_at v 0 ≤ 5002) : c_t_blanks d σ v = some (b2i (fineB (σ fT_bytes v) (inT σ v) (σ fT_size v 0) (bl (σ fT_bytes v) (inT σ v) (σ fT_size v 0) (σ fT_at v 0))), ga_up σ fT_at v 0 (bl (σ fT_bytes v) (inT σ v) (σ fT_size v 0) (σ fT_at v 0))) := by
  obtain ⟨d, rfl⟩ : ∃ e, d = e + 1 := ⟨d - 1, by omega⟩
  have e := s_t_blanks_2 (σ := σ) d hv hn (σ fT_at v 0) h0 h5
  rw [up_self] at e
  rw [e_t_blanks, e]
theorem s_t_low {σ : ga_S} {d : Nat} (hd : 1 ≤ d) {v i : Int} (hv : 0 ≤ v) (hn : σ fT_size v 0 ≤ 5000) (h0 : 0 ≤ i) : c_t_low d σ v i = some (if i < σ fT_size v 0 then lowB (σ fT_bytes v i) else 0, σ) := by
  obtain ⟨d, rfl⟩ : ∃ e, d = e + 1 := ⟨d - 1, by omega⟩
  have l : ∀ b, t_low_18 d σ b = some (lowB b, σ) := by
    intro b
    rw [e_t_low_18]
    unfold lowB
    by_cases c1 : b < 65
    · rw [if_pos c1, if_neg (by omega)]
    · rw [if_neg c1]
      by_cases c2 : 90 < b
      · rw [if_pos c2, if_neg (by omega)]
      · rw [if_neg c2, if_pos (by omega), w32_ok (by omega)]
  rw [e_t_low, nn_ok _ hv]
  by_cases c : i < σ fT_size v 0
  · rw [if_pos c, nn_ok _ hv, nn_ok _ hv, ck_ok _ (by omega), l, if_pos c]
  · rw [if_neg c, l, if_neg c]; rfl
theorem s_t_isLetter {σ : ga_S} {d : Nat} (hd : 1 ≤ d) (b : Int) : c_t_isLetter d σ b = some (b2i (decide (97 ≤ b ∧ b ≤ 122)), σ) := by
  obtain ⟨d, rfl⟩ : ∃ e, d = e + 1 := ⟨d - 1, by omega⟩
  rw [e_t_isLetter]
  by_cases c1 : b < 97
  · rw [if_pos c1, decide_eq_false (by omega)]; rfl
  · rw [if_neg c1]
    by_cases c2 : 122 < b
    · rw [if_pos c2, decide_eq_false (by omega)]; rfl
    · rw [if_neg c2, decide_eq_true (by omega)]; rfl
theorem s_t_isFigure {σ : ga_S} {d : Nat} (hd : 1 ≤ d) (b : Int) : c_t_isFigure d σ b = some (b2i (isDg b), σ) := by
  obtain ⟨d, rfl⟩ : ∃ e, d = e + 1 := ⟨d - 1, by omega⟩
  rw [e_t_isFigure]
  unfold isDg
  by_cases c1 : b < 48
  · rw [if_pos c1, decide_eq_false (by omega)]; rfl
  · rw [if_neg c1]
    by_cases c2 : 57 < b
    · rw [if_pos c2, decide_eq_false (by omega)]; rfl
    · rw [if_neg c2, decide_eq_true (by omega)]; rfl
theorem s_m_in {τ : ga_S} {d : Nat} (hd : 1 ≤ d) (b l h : Int) : c_m_in d τ b l h = some (b2i (decide (l ≤ b ∧ b ≤ h)), τ) := by
  obtain ⟨d, rfl⟩ : ∃ e, d = e + 1 := ⟨d - 1, by omega⟩
  rw [e_m_in]
  by_cases c1 : b < l
  · rw [if_pos c1, decide_eq_false (by omega)]; rfl
  · rw [if_neg c1]
    by_cases c2 : h < b
    · rw [if_pos c2, decide_eq_false (by omega)]; rfl
    · rw [if_neg c2, decide_eq_true (by omega)]; rfl
theorem s_m_small {τ : ga_S} {d : Nat} (hd : 2 ≤ d) (b : Int) : c_m_small d τ b = some (lowB b, τ) := by
  obtain ⟨d, rfl⟩ : ∃ e, d = e + 1 := ⟨d - 1, by omega⟩
  rw [e_m_small, s_m_in (by omega)]; simp only [Option.bind_some]
  unfold lowB
  by_cases c : 65 ≤ b ∧ b ≤ 90
  · rw [if_pos c, decide_eq_true c, if_neg (by decide), w32_ok (by omega)]
  · rw [if_neg c, decide_eq_false c, if_pos (by decide)]
theorem s_m_isLetter {τ : ga_S} {d : Nat} (hd : 3 ≤ d) (b : Int) : c_m_isLetter d τ b = some (b2i (isLt b), τ) := by
  obtain ⟨d, rfl⟩ : ∃ e, d = e + 1 := ⟨d - 1, by omega⟩
  rw [e_m_isLetter, s_m_small (by omega)]; simp only [Option.bind_some]; rw [s_m_in (by omega)]; simp only [Option.bind_some]; rw [z1_ok _ (b2i_01 _)]
  rfl
/-! prims -/
theorem s_p_len {d : Nat} (hd : 1 ≤ d) (σ : ga_S) (s : Int) : p_len d σ s = some (am_len s, σ) := by
  obtain ⟨d, rfl⟩ : ∃ e, d = e + 1 := ⟨d - 1, by omega⟩
  rfl
theorem s_p_chr {d : Nat} (hd : 1 ≤ d) (σ : ga_S) (s i : Int) (h : 0 ≤ i ∧ i < am_len s) : p_chr d σ s i = some (am_chr s i, σ) := by
  obtain ⟨d, rfl⟩ : ∃ e, d = e + 1 := ⟨d - 1, by omega⟩
  show ga_ck i (am_len s) (some (am_chr s i, σ)) = _
  rw [ck_ok _ h]
theorem s_p_idx {d : Nat} (hd : 1 ≤ d) (σ : ga_S) (s c i : Int) (h : 0 ≤ c ∧ c < 128 ∧ 0 ≤ i) : p_idx d σ s c i = some (am_idx s c i, σ) := by
  obtain ⟨d, rfl⟩ : ∃ e, d = e + 1 := ⟨d - 1, by omega⟩
  show (if 0 ≤ c ∧ c < 128 ∧ 0 ≤ i then some (am_idx s c i, σ) else none) = _
  rw [if_pos h]
theorem s_p_ord {d : Nat} (hd : 1 ≤ d) (σ : ga_S) (k : Int) (h : 0 ≤ k) : p_ord d σ k = some (k, σ) := by
  obtain ⟨d, rfl⟩ : ∃ e, d = e + 1 := ⟨d - 1, by omega⟩
  show ga_nn k (some (k, σ)) = _
  rw [nn_ok _ h]
theorem s_p_max {d : Nat} (hd : 1 ≤ d) (σ : ga_S) (a b : Int) : p_max d σ a b = some (if a < b then b else a, σ) := by
  obtain ⟨d, rfl⟩ : ∃ e, d = e + 1 := ⟨d - 1, by omega⟩
  rfl
theorem s_p_min {d : Nat} (hd : 1 ≤ d) (σ : ga_S) (a b : Int) : p_min d σ a b = some (if a < b then a else b, σ) := by
  obtain ⟨d, rfl⟩ : ∃ e, d = e + 1 := ⟨d - 1, by omega⟩
  rfl
theorem s_p_abs {d : Nat} (hd : 1 ≤ d) (σ : ga_S) (a : Int) : p_abs d σ a = some (if a < 0 then w32 (-a) else a, σ) := by
  obtain ⟨d, rfl⟩ : ∃ e, d = e + 1 := ⟨d - 1, by omega⟩
  rfl

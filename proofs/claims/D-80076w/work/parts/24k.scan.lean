/-! other sentences: which word tells; a sentence that tells nothing -/
def vbE (k : Int) : Prop := k = 13 ∨ k = 14 ∨ k = 21 ∨ k = 22 ∨ k = 30 ∨ k = 3 ∨ k = 8
theorem vbE_ex {σ τ : ga_S} {f : Int} {N : Nat} (hE : ENV σ τ f N) : ∃ b : Int, 0 ≤ b ∧ b ≤ N ∧ vbE (σ fT_kinds 0 b) ∧ ∀ q : Int, 0 ≤ q → q < b → ¬ vbE (σ fT_kinds 0 q) := by
  have A := sk_all (f := fun q => !decide (σ fT_kinds 0 q = 13 ∨ σ fT_kinds 0 q = 14 ∨ σ fT_kinds 0 q = 21 ∨ σ fT_kinds 0 q = 22 ∨ σ fT_kinds 0 q = 30 ∨ σ fT_kinds 0 q = 3 ∨ σ fT_kinds 0 q = 8)) (n := (N : Int)) 0
  obtain ⟨b, eb⟩ : ∃ b, b = sk (fun q => !decide (σ fT_kinds 0 q = 13 ∨ σ fT_kinds 0 q = 14 ∨ σ fT_kinds 0 q = 21 ∨ σ fT_kinds 0 q = 22 ∨ σ fT_kinds 0 q = 30 ∨ σ fT_kinds 0 q = 3 ∨ σ fT_kinds 0 q = 8)) N 0 := ⟨_, rfl⟩
  rw [← eb] at A
  have bN := A.2.1 (by omega)
  refine ⟨b, A.1, bN, ?_, fun q h1 h2 => ?_⟩
  · by_cases c : b < N
    · have := A.2.2.1 c
      rw [Bool.not_eq_false'] at this
      unfold vbE
      exact of_decide_eq_true this
    · have e : b = N := by omega
      rw [e]
      rcases hE.2.2.2.2.1 with z | z
      · exact Or.inr (Or.inr (Or.inr (Or.inr (Or.inr (Or.inl z)))))
      · exact Or.inr (Or.inr (Or.inr (Or.inr (Or.inr (Or.inr z)))))
  · have := A.2.2.2 q h1 h2
    rw [Bool.not_eq_true'] at this
    unfold vbE
    exact of_decide_eq_false this
theorem s_r_os_130 {σ : ga_S} {d : Nat} (hd : 1 ≤ d) {b : Int} (hb : b ≤ 5001) (hE : vbE (σ fT_kinds 0 b)) : ∀ (n : Nat) (k : Int), 0 ≤ k → k + n = b → (∀ q, k ≤ q → q < b → ¬ vbE (σ fT_kinds 0 q)) → r_otherShape_130 d σ k = r_otherShape_213 d σ b := by
  intro n
  induction n with
  | zero =>
    intro k h0 hk _
    have : k = b := by omega
    subst this
    have is := fun c => s_r_is (σ := σ) hd (k := k) ⟨h0, by omega⟩ c
    rw [e_r_otherShape_130, is]
    simp only [Option.bind_some]
    by_cases c1 : σ fT_kinds 0 k = 13
    · rw [decide_eq_true c1, if_neg b2i_n]
    · rw [decide_eq_false c1, if_pos b2i_f, is]
      simp only [Option.bind_some]
      by_cases c2 : σ fT_kinds 0 k = 14
      · rw [decide_eq_true c2, if_neg b2i_n]
      · rw [decide_eq_false c2, if_pos b2i_f, is]
        simp only [Option.bind_some]
        by_cases c3 : σ fT_kinds 0 k = 21
        · rw [decide_eq_true c3, if_neg b2i_n]
        · rw [decide_eq_false c3, if_pos b2i_f, is]
          simp only [Option.bind_some]
          by_cases c4 : σ fT_kinds 0 k = 22
          · rw [decide_eq_true c4, if_neg b2i_n]
          · rw [decide_eq_false c4, if_pos b2i_f, is]
            simp only [Option.bind_some]
            by_cases c5 : σ fT_kinds 0 k = 30
            · rw [decide_eq_true c5, if_neg b2i_n]
            · rw [decide_eq_false c5, if_pos b2i_f, is]
              simp only [Option.bind_some]
              by_cases c6 : σ fT_kinds 0 k = 3
              · rw [decide_eq_true c6, if_neg b2i_n]
              · rw [decide_eq_false c6, if_pos b2i_f, is]
                simp only [Option.bind_some]
                have c7 : σ fT_kinds 0 k = 8 := by unfold vbE at hE; omega
                rw [decide_eq_true c7, if_neg b2i_n]
  | succ n ih =>
    intro k h0 hk hq
    have is := fun c => s_r_is (σ := σ) hd (k := k) ⟨h0, by omega⟩ c
    have no := hq k (Int.le_refl _) (by omega)
    unfold vbE at no
    rw [e_r_otherShape_130, is]
    simp only [Option.bind_some]
    rw [decide_eq_false (p := σ fT_kinds 0 k = 13) (by omega), if_pos b2i_f, is]
    simp only [Option.bind_some]
    rw [decide_eq_false (p := σ fT_kinds 0 k = 14) (by omega), if_pos b2i_f, is]
    simp only [Option.bind_some]
    rw [decide_eq_false (p := σ fT_kinds 0 k = 21) (by omega), if_pos b2i_f, is]
    simp only [Option.bind_some]
    rw [decide_eq_false (p := σ fT_kinds 0 k = 22) (by omega), if_pos b2i_f, is]
    simp only [Option.bind_some]
    rw [decide_eq_false (p := σ fT_kinds 0 k = 30) (by omega), if_pos b2i_f, is]
    simp only [Option.bind_some]
    rw [decide_eq_false (p := σ fT_kinds 0 k = 3) (by omega), if_pos b2i_f, is]
    simp only [Option.bind_some]
    rw [decide_eq_false (p := σ fT_kinds 0 k = 8) (by omega), if_pos b2i_f, w32_ok (by omega)]
    exact ih (k + 1) (by omega) (by omega) (fun q h1 h2 => hq q (by omega) h2)
/-- what tells, for the model -/
def tlW (k : Int) : Int := if k = 3 ∨ k = 8 then 0 else cdM k
theorem s_m_cm_12 {σ τ : ga_S} {f : Int} {N : Nat} (hE : ENV σ τ f N) {d : Nat} {b : Int} (hb : b ≤ N) (hV : vbE (σ fT_kinds 0 b)) : ∀ (n : Nat) (k : Int), 0 ≤ k → k + n = b → (∀ q, k ≤ q → q < b → ¬ vbE (σ fT_kinds 0 q)) → m_common_12 d τ 0 (f + k) = m_common_95 d τ (tlW (σ fT_kinds 0 b)) := by
  have hf := hE.1
  have hN := hE.2.1
  have hN5 := hE.2.2.1
  intro n
  induction n with
  | zero =>
    intro k h0 hk _
    have : k = b := by omega
    subst this
    have K := hE.2.2.2.1 k h0 hb
    have mk : ∀ c m : Int, m = cdM c → 0 ≤ c ∧ c < 64 → (τ fM_token 0 (f + k) = m ↔ σ fT_kinds 0 k = c) := fun c m hm hc => by rw [hm]; exact ENV_is hE h0 hb hc
    have k3 := mk 3 46 (by decide) (by decide)
    have k8 := mk 8 1 (by decide) (by decide)
    rw [e_m_common_12, ck_ok _ (by omega)]
    by_cases c3 : σ fT_kinds 0 k = 3
    · rw [if_pos (k3.mpr c3)]
      unfold tlW
      rw [if_pos (Or.inl c3)]
    · rw [if_neg (fun z => c3 (k3.mp z)), ck_ok _ (by omega)]
      by_cases c8 : σ fT_kinds 0 k = 8
      · rw [if_pos (k8.mpr c8)]
        unfold tlW
        rw [if_pos (Or.inr c8)]
      · have lt := ENV_lt hE hb rfl c3 c8
        have fin : ∀ w : Int, w ≠ 0 → m_common_12 d τ w (f + k + 1) = m_common_95 d τ w := by
          intro w hw
          rw [e_m_common_12, ck_ok _ (by omega)]
          by_cases d1 : τ fM_token 0 (f + k + 1) = 46
          · rw [if_pos d1]
          · rw [if_neg d1, ck_ok _ (by omega)]
            by_cases d2 : τ fM_token 0 (f + k + 1) = 1
            · rw [if_pos d2]
            · rw [if_neg d2, if_neg hw]
        have fin2 : ∀ w : Int, τ fM_token 0 (f + k) = w → w ≠ 0 → m_common_80 d τ (f + k) (τ fM_token 0 (f + k)) = m_common_95 d τ (cdM (σ fT_kinds 0 k)) := by
          intro w hw hw0
          rw [e_m_common_80, e_m_common_86, w32_ok (by omega), fin _ (by rw [hw]; exact hw0), K.2.2]
        unfold tlW
        rw [if_neg (fun z => c8 (k8.mp z)), if_pos rfl, ck_ok _ (by omega), if_neg (c := σ fT_kinds 0 k = 3 ∨ σ fT_kinds 0 k = 8) (by omega)]
        have v13 := mk 13 104 (by decide) (by decide)
        have v14 := mk 14 105 (by decide) (by decide)
        have v21 := mk 21 112 (by decide) (by decide)
        have v22 := mk 22 113 (by decide) (by decide)
        have v30 := mk 30 121 (by decide) (by decide)
        by_cases c13 : σ fT_kinds 0 k = 13
        · rw [if_pos (v13.mpr c13), fin2 _ (v13.mpr c13) (by decide)]
        · rw [if_neg (fun z => c13 (v13.mp z))]
          by_cases c14 : σ fT_kinds 0 k = 14
          · rw [if_pos (v14.mpr c14), fin2 _ (v14.mpr c14) (by decide)]
          · rw [if_neg (fun z => c14 (v14.mp z))]
            by_cases c21 : σ fT_kinds 0 k = 21
            · rw [if_pos (v21.mpr c21), fin2 _ (v21.mpr c21) (by decide)]
            · rw [if_neg (fun z => c21 (v21.mp z))]
              by_cases c22 : σ fT_kinds 0 k = 22
              · rw [if_pos (v22.mpr c22), fin2 _ (v22.mpr c22) (by decide)]
              · have c30 : σ fT_kinds 0 k = 30 := by unfold vbE at hV; omega
                rw [if_neg (fun z => c22 (v22.mp z)), if_pos (v30.mpr c30), fin2 _ (v30.mpr c30) (by decide)]
  | succ n ih =>
    intro k h0 hk hq
    have mk : ∀ c m : Int, m = cdM c → 0 ≤ c ∧ c < 64 → (τ fM_token 0 (f + k) = m ↔ σ fT_kinds 0 k = c) := fun c m hm hc => by rw [hm]; exact ENV_is hE h0 (by omega) hc
    have no := hq k (Int.le_refl _) (by omega)
    unfold vbE at no
    rw [e_m_common_12, ck_ok _ (by omega), if_neg (fun z => by have := (mk 3 46 (by decide) (by decide)).mp z; omega), ck_ok _ (by omega), if_neg (fun z => by have := (mk 8 1 (by decide) (by decide)).mp z; omega), if_pos rfl, ck_ok _ (by omega), if_neg (fun z => by have := (mk 13 104 (by decide) (by decide)).mp z; omega), if_neg (fun z => by have := (mk 14 105 (by decide) (by decide)).mp z; omega), if_neg (fun z => by have := (mk 21 112 (by decide) (by decide)).mp z; omega), if_neg (fun z => by have := (mk 22 113 (by decide) (by decide)).mp z; omega), if_neg (fun z => by have := (mk 30 121 (by decide) (by decide)).mp z; omega), e_m_common_86, w32_ok (by omega), show f + k + 1 = f + (k + 1) from by omega]
    exact ih (k + 1) (by omega) (by omega) (fun q h1 h2 => hq q (by omega) h2)
/-- free words, articles, and, commas -/
def oF (k : Int) : Bool := decide (k = 0 ∨ (9 ≤ k ∧ k ≤ 12) ∨ k = 25 ∨ k = 4)
theorem s_r_os_241 {σ : ga_S} {d : Nat} (hd : 1 ≤ d) {b : Int} (hb : b ≤ 5001) (hk : ∀ q, 0 ≤ q → q < b → 0 ≤ σ fT_kinds 0 q) : ∀ (n : Nat) (p : Int), 0 ≤ p → p + n = b → r_otherShape_241 d (ga_up σ fR_p 0 0 p) b = r_otherShape_319 d (ga_up σ fR_p 0 0 (sk (fun q => oF (σ fT_kinds 0 q)) b p)) b := by
  intro n
  induction n with
  | zero =>
    intro p h0 hp
    have e : sk (fun q => oF (σ fT_kinds 0 q)) b p = p := by
      have A := sk_all (f := fun q => oF (σ fT_kinds 0 q)) (n := b) p
      have := A.2.1 (by omega)
      have := A.1
      omega
    rw [e_r_otherShape_241, up_eq, if_neg (by omega), e]
  | succ n ih =>
    intro p h0 hp
    have kz := hk p h0 (by omega)
    have K : (ga_up σ fR_p 0 0 p) fT_kinds 0 p = σ fT_kinds 0 p := by rw [up_F (by decide)]
    have A := sk_all (f := fun q => oF (σ fT_kinds 0 q)) (n := b) p
    have yes : oF (σ fT_kinds 0 p) = true → r_otherShape_306 d (ga_up σ fR_p 0 0 p) b = r_otherShape_319 d (ga_up σ fR_p 0 0 (sk (fun q => oF (σ fT_kinds 0 q)) b p)) b := by
      intro hy
      rw [e_r_otherShape_306, up_eq, w32_ok (by omega), up_up, ih (p + 1) (by omega) (by omega)]
      have : sk (fun q => oF (σ fT_kinds 0 q)) b p = sk (fun q => oF (σ fT_kinds 0 q)) b (p + 1) := by
        rw [sk_s (f := fun q => oF (σ fT_kinds 0 q)) (by omega) hy]
      rw [this]
    rw [e_r_otherShape_241, up_eq, if_pos (by omega), s_r_isFree hd (by omega), K]
    simp only [Option.bind_some]
    by_cases c0 : σ fT_kinds 0 p = 0
    · rw [decide_eq_true c0, if_neg b2i_n]
      exact yes (decide_eq_true (Or.inl c0))
    · rw [decide_eq_false c0, if_pos b2i_f, up_eq, ck_ok _ (by omega), K, nn_ok _ (by omega), s_k_isArticle hd]
      simp only [Option.bind_some]
      by_cases ca : 9 ≤ σ fT_kinds 0 p ∧ σ fT_kinds 0 p ≤ 12
      · rw [decide_eq_true ca, if_neg b2i_n]
        exact yes (decide_eq_true (Or.inr (Or.inl ca)))
      · rw [decide_eq_false ca, if_pos b2i_f, up_eq, s_r_is hd (by omega), K]
        simp only [Option.bind_some]
        by_cases c25 : σ fT_kinds 0 p = 25
        · rw [decide_eq_true c25, if_neg b2i_n]
          exact yes (decide_eq_true (Or.inr (Or.inr (Or.inl c25))))
        · rw [decide_eq_false c25, if_pos b2i_f, up_eq, s_r_is hd (by omega), K]
          simp only [Option.bind_some]
          by_cases c4 : σ fT_kinds 0 p = 4
          · rw [decide_eq_true c4, if_neg b2i_n]
            exact yes (decide_eq_true (Or.inr (Or.inr (Or.inr c4))))
          · rw [decide_eq_false c4, if_pos b2i_f]
            have no : oF (σ fT_kinds 0 p) = false := decide_eq_false (by omega)
            have e : sk (fun q => oF (σ fT_kinds 0 q)) b p = p := sk_x (by omega) no
            rw [e]

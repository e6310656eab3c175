/-! the model's tokens -/
/-- the model's number for a sort of token -/
def cdM (k : Int) : Int := if k = 0 then 3 else if k = 1 then 4 else if k = 2 then 5 else if k = 3 then 46 else if k = 4 then 44 else if k = 5 then 59 else if k = 6 then 58 else if k = 7 then 2 else if k = 8 then 1 else 91 + k
def dgF (B : Int → Int) (p : Int) (v : Int) (l : List Int) : Int := match l with
  | [] => v
  | i :: r => dgF B p (10 * v + B (p + i) - 48) r
/-- figures as a number -/
def dgV (B : Int → Int) (p n : Int) : Int := dgF B p 0 (rg 0 n)
theorem dgF_app (B : Int → Int) (p : Int) (l r : List Int) : ∀ v, dgF B p v (l ++ r) = dgF B p (dgF B p v l) r := by
  induction l with
  | nil => intro v; rfl
  | cons c l ih => intro v; exact ih _
theorem dgV_s {B : Int → Int} {p i : Int} (h : 0 ≤ i) : dgV B p (i + 1) = 10 * dgV B p i + B (p + i) - 48 := by
  unfold dgV; rw [rg_snoc 0 h, dgF_app]; rfl
theorem dgV_r {B : Int → Int} {p : Int} : ∀ m : Nat, (∀ q, p ≤ q → q < p + m → isDg (B q) = true) → 0 ≤ dgV B p m ∧ dgV B p m < 10 ^ m := by
  intro m
  induction m with
  | zero => intro _; exact ⟨Int.le_refl _, by show (0 : Int) < 10 ^ 0; decide⟩
  | succ m ih =>
    intro h
    have i := ih (fun q a b => h q a (by push_cast; omega))
    have c := of_decide_eq_true (h (p + m) (by omega) (by push_cast; omega))
    have e := dgV_s (B := B) (p := p) (i := m) (by omega)
    push_cast
    rw [e, Int.pow_succ]
    omega
def ctL : List Nat := [fM_place, fM_token, fM_word, fM_length]
/-- what one token leaves -/
def ctP (τ τ' : ga_S) (k p : Int) : Prop := fr ctL τ τ' ∧ (∀ F, F ∈ ctL → ∀ n i, i ≠ k → τ' F n i = τ F n i) ∧ τ' fM_place 0 k = p ∧ τ' fM_token 0 k = cdM (tkK (τ fM_story 0) false (τ fM_storySize 0 0) p) ∧
  ((tkK (τ fM_story 0) false (τ fM_storySize 0 0) p = 0 ∨ 9 ≤ tkK (τ fM_story 0) false (τ fM_storySize 0 0) p) → τ' fM_word 0 k = pack (wdB (τ fM_story 0) p (wEnd (τ fM_story 0) (τ fM_storySize 0 0) p - p))) ∧
  (tkK (τ fM_story 0) false (τ fM_storySize 0 0) p = 1 → τ' fM_word 0 k = dgV (τ fM_story 0) p (dEnd (τ fM_story 0) (τ fM_storySize 0 0) p - p)) ∧
  (tkK (τ fM_story 0) false (τ fM_storySize 0 0) p = 2 → τ' fM_length 0 k = qS (τ fM_story 0) (τ fM_storySize 0 0) p - p - 1)
theorem s_m_cut_58 {τ : ga_S} {d : Nat} (hd : 3 ≤ d) (hs : τ fM_storySize 0 0 ≤ 5000) (k p : Int) : ∀ q, 0 ≤ q → m_cut_58 d τ k p q = m_cut_86 d τ k p (wEnd (τ fM_story 0) (τ fM_storySize 0 0) q) := by
  refine rg_ind (n := τ fM_storySize 0 0) ?_ ?_
  · intro q h h0
    rw [e_m_cut_58, if_neg (by omega)]; unfold wEnd; rw [sk_n h]
  · intro q h ih h0
    rw [e_m_cut_58, if_pos h, ck_ok _ (by omega), s_m_isLetter hd]; simp only [Option.bind_some]
    unfold wEnd at ih ⊢
    cases c : isLt (τ fM_story 0 q) with
    | false => rw [if_pos (by decide), sk_x (f := fun q => isLt (τ fM_story 0 q)) h c]
    | true => rw [if_neg (by decide), w32_ok (by omega), ih (by omega), sk_s (f := fun q => isLt (τ fM_story 0 q)) h c]
theorem s_m_cut_174 {τ : ga_S} {d : Nat} (hd : 1 ≤ d) (hs : τ fM_storySize 0 0 ≤ 5000) (k p : Int) (hp : 0 ≤ p) : ∀ q, p ≤ q → (∀ j, p ≤ j → j < q → isDg (τ fM_story 0 j) = true) → ∃ w, m_cut_174 d τ k p q (dgV (τ fM_story 0) p (if q - p ≤ 6 then q - p else 6)) = m_cut_241 d τ k p (dEnd (τ fM_story 0) (τ fM_storySize 0 0) q) w ∧ (dEnd (τ fM_story 0) (τ fM_storySize 0 0) q - p ≤ 6 → w = dgV (τ fM_story 0) p (dEnd (τ fM_story 0) (τ fM_storySize 0 0) q - p)) := by
  refine rg_ind (n := τ fM_storySize 0 0) ?_ ?_
  · intro q h h0 _
    rw [e_m_cut_174, if_neg (by omega)]
    unfold dEnd; rw [sk_n h]
    exact ⟨_, rfl, fun z => by rw [if_pos z]⟩
  · intro q h ih h0 hj
    rw [e_m_cut_174, if_pos h, ck_ok _ (by omega), s_m_in hd]; simp only [Option.bind_some]
    unfold dEnd at ih ⊢
    cases c : isDg (τ fM_story 0 q) with
    | false =>
      rw [if_pos (by rw [show decide (48 ≤ τ fM_story 0 q ∧ τ fM_story 0 q ≤ 57) = false from c]; rfl), sk_x (f := fun q => isDg (τ fM_story 0 q)) h c]
      exact ⟨_, rfl, fun z => by rw [if_pos z]⟩
    | true =>
      have c2 := of_decide_eq_true c
      rw [if_neg (by rw [show decide (48 ≤ τ fM_story 0 q ∧ τ fM_story 0 q ≤ 57) = true from c]; decide), w32_ok (by omega), sk_s (f := fun q => isDg (τ fM_story 0 q)) h c]
      have i := ih (by omega) (fun j a b => by
        by_cases e : j = q
        · rw [e]; exact c
        · exact hj j a (by omega))
      by_cases c3 : q - p < 6
      · rw [if_pos c3, ck_ok _ (by omega), e_m_cut_233, w32_ok (by omega), if_pos (by omega)]
        rw [if_pos (by omega), show q + 1 - p = (q - p) + 1 by omega, dgV_s (by omega), show p + (q - p) = q by omega] at i
        have r := dgV_r (B := τ fM_story 0) (p := p) (q - p).toNat (fun j a b => hj j a (by omega))
        rw [show (((q - p).toNat : Nat) : Int) = q - p by omega] at r
        have r2 : (10 : Int) ^ (q - p).toNat ≤ 10 ^ 6 := ipow_le (by decide) (by omega)
        have w1 : w64 (10 * dgV (τ fM_story 0) p (q - p)) = 10 * dgV (τ fM_story 0) p (q - p) := by unfold w64; omega
        have w2 : w64 (10 * dgV (τ fM_story 0) p (q - p) + τ fM_story 0 q) = 10 * dgV (τ fM_story 0) p (q - p) + τ fM_story 0 q := by unfold w64; omega
        have w3 : w64 (10 * dgV (τ fM_story 0) p (q - p) + τ fM_story 0 q - 48) = 10 * dgV (τ fM_story 0) p (q - p) + τ fM_story 0 q - 48 := by unfold w64; omega
        rw [w1, w2, w3]
        exact i
      · rw [if_neg c3, e_m_cut_233, w32_ok (by omega)]
        rw [if_neg (by omega)] at i
        by_cases c4 : q - p ≤ 6
        · rw [if_pos c4, show q - p = 6 by omega]; exact i
        · rw [if_neg c4]; exact i
/-- a text's end, and whether it is good -/
theorem s_m_cut_281 {τ : ga_S} {d : Nat} (hd : 1 ≤ d) (hs : τ fM_storySize 0 0 ≤ 5000) (k p : Int) : ∀ q, 0 ≤ q → ∀ g : Bool, m_cut_281 d τ k p q (b2i g) = m_cut_337 d τ k p (sk (fun q => decide (¬ τ fM_story 0 q = 34)) (τ fM_storySize 0 0) q) (b2i (g && decide (sk (fun q => decide (¬ τ fM_story 0 q = 34 ∧ 32 ≤ τ fM_story 0 q ∧ τ fM_story 0 q ≤ 126)) (τ fM_storySize 0 0) q = sk (fun q => decide (¬ τ fM_story 0 q = 34)) (τ fM_storySize 0 0) q))) := by
  refine rg_ind (n := τ fM_storySize 0 0) ?_ ?_
  · intro q h h0 g
    rw [e_m_cut_281, if_neg (by omega), sk_n h, sk_n h]; simp
  · intro q h ih h0 g
    rw [e_m_cut_281, if_pos h, ck_ok _ (by omega)]
    by_cases c : τ fM_story 0 q = 34
    · rw [if_pos c, sk_x (n := τ fM_storySize 0 0) h (by simp [c]), sk_x (n := τ fM_storySize 0 0) h (by simp [c])]; simp
    · rw [if_neg c, sk_s (f := fun q => decide (¬ τ fM_story 0 q = 34)) h (by simp [c])]
      have i0 := ih (by omega) false
      have i1 := ih (by omega) true
      rw [b2i_f] at i0
      rw [b2i_t] at i1
      cases g with
      | false =>
        rw [if_pos b2i_f, e_m_cut_328, e_m_cut_329, w32_ok (by omega), i0, Bool.false_and, Bool.false_and]
      | true =>
        rw [if_neg (show ¬ b2i true = 0 by decide), ck_ok _ (by omega), s_m_in hd]; simp only [Option.bind_some]
        by_cases c2 : 32 ≤ τ fM_story 0 q ∧ τ fM_story 0 q ≤ 126
        · rw [decide_eq_true c2, if_neg (show ¬ b2i true = 0 by decide), e_m_cut_329, w32_ok (by omega), i1, sk_s (f := fun q => decide (¬ τ fM_story 0 q = 34 ∧ 32 ≤ τ fM_story 0 q ∧ τ fM_story 0 q ≤ 126)) h (decide_eq_true ⟨c, c2⟩)]
        · have s1 := (sk_all (f := fun q => decide (¬ τ fM_story 0 q = 34)) (n := τ fM_storySize 0 0) (q + 1)).1
          have e2 := sk_x (f := fun q => decide (¬ τ fM_story 0 q = 34 ∧ 32 ≤ τ fM_story 0 q ∧ τ fM_story 0 q ≤ 126)) (n := τ fM_storySize 0 0) h (decide_eq_false (fun z => c2 z.2))
          rw [decide_eq_false c2, if_pos b2i_f, e_m_cut_328, e_m_cut_329, w32_ok (by omega), i0, Bool.false_and, e2, decide_eq_false (by omega), Bool.and_false]
theorem qS_E {B : Int → Int} {n p : Int} : (qS B n p < n ∧ B (qS B n p) = 34) ↔ (sk (fun q => decide (¬ B q = 34)) n (p + 1) < n ∧ qS B n p = sk (fun q => decide (¬ B q = 34)) n (p + 1)) := by
  have a := sk_all (f := fun q => decide (¬ B q = 34)) (n := n) (p + 1)
  have b := sk_all (f := fun q => decide (¬ B q = 34 ∧ 32 ≤ B q ∧ B q ≤ 126)) (n := n) (p + 1)
  unfold qS
  constructor
  · intro ⟨h1, h2⟩
    have le : sk (fun q => decide (¬ B q = 34 ∧ 32 ≤ B q ∧ B q ≤ 126)) n (p + 1) ≤ sk (fun q => decide (¬ B q = 34)) n (p + 1) := by
      refine Classical.byContradiction fun hc => ?_
      have i := b.2.2.2 (sk (fun q => decide (¬ B q = 34)) n (p + 1)) a.1 (by omega)
      have j := a.2.2.1 (by omega)
      exact absurd (of_decide_eq_true i).1 (fun z => z (Classical.not_not.mp (of_decide_eq_false j)))
    have ge : sk (fun q => decide (¬ B q = 34)) n (p + 1) ≤ sk (fun q => decide (¬ B q = 34 ∧ 32 ≤ B q ∧ B q ≤ 126)) n (p + 1) := by
      refine Classical.byContradiction fun hc => ?_
      have i := a.2.2.2 _ b.1 (by omega : sk (fun q => decide (¬ B q = 34 ∧ 32 ≤ B q ∧ B q ≤ 126)) n (p + 1) < _)
      exact absurd h2 (of_decide_eq_true i)
    omega
  · intro ⟨h1, h2⟩
    have j := Classical.not_not.mp (of_decide_eq_false (a.2.2.1 h1))
    exact ⟨by omega, by rw [h2]; exact j⟩

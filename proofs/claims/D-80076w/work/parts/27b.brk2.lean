/-! the words in brackets, model -/
def isWk (k : Int) : Bool := decide (k = 0 ∨ 9 ≤ k)
/-- from token k on, all are words -/
def okW (B : Int → Int) (c a : Int) (M : Nat) (k : Nat) : Prop := sK B true c a M = 8 ∧ ∀ j, k ≤ j → j < M → (sK B true c a j = 0 ∨ 9 ≤ sK B true c a j)
def inM : List Nat := [fM_inside, fM_insides]
/-- the text's own bytes -/
def txB (B : Int → Int) (a e : Int) : Prop := ∀ q, a ≤ q → q < e → 32 ≤ B q ∧ B q ≤ 126 ∧ B q ≠ 34
theorem isBl_32 {b : Int} (h : 32 ≤ b) : isBl b = decide (b = 32) := by
  unfold isBl
  by_cases z : b = 32
  · rw [decide_eq_true z, decide_eq_true (Or.inr (Or.inr (Or.inr z)))]
  · rw [decide_eq_false z, decide_eq_false (by omega)]
theorem isLt_no {b : Int} (h : b = 32 ∨ b = 91 ∨ b = 93) : isLt b = false := by
  unfold isLt lowB
  rcases h with h | h | h <;> rw [h] <;> decide
/-- letters end ahead of what is none -/
theorem wEnd_c {B : Int → Int} {e c p : Int} (hce : c ≤ e) (hpc : p ≤ c) (hB : c = e ∨ isLt (B c) = false) : wEnd B e p = wEnd B c p := by
  unfold wEnd
  have A := sk_all (f := fun q => isLt (B q)) (n := e) p
  have C := sk_all (f := fun q => isLt (B q)) (n := c) p
  have a1 : sk (fun q => isLt (B q)) e p ≤ c := by
    refine Classical.byContradiction fun z => ?_
    rcases hB with h | h
    · have := A.2.1 (by omega); omega
    · have := A.2.2.2 c hpc (by omega)
      rw [h] at this; cases this
  have c1 := C.2.1 hpc
  refine Int.le_antisymm ?_ ?_
  · refine Classical.byContradiction fun z => ?_
    have x := A.2.2.2 (sk (fun q => isLt (B q)) c p) C.1 (by omega)
    have y := C.2.2.1 (by omega)
    rw [x] at y; cases y
  · refine Classical.byContradiction fun z => ?_
    have x := C.2.2.2 (sk (fun q => isLt (B q)) e p) A.1 (by omega)
    have y := A.2.2.1 (by omega)
    rw [x] at y; cases y
theorem mm_words_55 {τ : ga_S} {d : Nat} (hd : 3 ≤ d) {e p : Int} (he : e ≤ 5000) : ∀ q, 0 ≤ q → m_words_55 d τ e p q = m_words_80 d τ e p (wEnd (τ fM_story 0) e q) := by
  refine pos_ind e fun q ih h0 => ?_
  rw [e_m_words_55]
  unfold wEnd
  by_cases y : q < e
  · rw [if_pos y, ck_ok _ (by omega), s_m_isLetter hd]
    simp only [Option.bind_some]
    cases z : isLt (τ fM_story 0 q) with
    | false => rw [if_pos b2i_f, sk_x y z]
    | true =>
      rw [if_neg b2i_n, w32_ok (by omega), ih (q + 1) (by omega) y (by omega), sk_s (f := fun q => isLt (τ fM_story 0 q)) y z]; rfl
  · rw [if_neg y, sk_n (by omega)]
/-- where nothing closes the bracket -/
theorem m_words_no {e c : Int} {B : Int → Int} {d : Nat} (hd : 4 ≤ d) (he : e ≤ 5000) (hce : c ≤ e) (hC : c = e ∨ B c = 91) : ∀ p, 0 ≤ p → p ≤ c → (∀ q, p ≤ q → q < c → B q ≠ 93 ∧ B q ≠ 91) → ∀ τ : ga_S, τ fM_story 0 = B → (0 ≤ τ fM_insides 0 0 ∧ τ fM_insides 0 0 ≤ 64) → ∃ τ', m_words_7 d τ e p = some (-1, τ') ∧ fr inM τ τ' := by
  refine pos_ind c fun p ih h0 hp hq τ hB hi => ?_
  rw [e_m_words_7, hB]
  by_cases y : p < c
  · have n93 := (hq p (Int.le_refl _) y)
    rw [if_pos (by omega), ck_ok _ (by omega), if_neg n93.1, ck_ok _ (by omega)]
    by_cases z : B p = 32
    · rw [if_pos z, w32_ok (by omega)]
      exact ih (p + 1) (by omega) y (by omega) (by omega) (fun q a b => hq q (by omega) b) τ hB hi
    · rw [if_neg z, ck_ok _ (by omega), s_m_isLetter (by omega)]
      simp only [Option.bind_some]
      cases w : isLt (B p) with
      | false => rw [if_pos b2i_f]; exact ⟨τ, rfl, fr_refl _ _⟩
      | true =>
        rw [if_neg b2i_n, mm_words_55 (by omega) he p h0, hB, wEnd_c hce hp (by rcases hC with h | h; exact Or.inl h; exact Or.inr (by rw [h]; decide))]
        have S := sk_all (f := fun q => isLt (B q)) (n := c) p
        have E : wEnd B c p = sk (fun q => isLt (B q)) c p := rfl
        rw [← E] at S
        have gt : p < wEnd B c p := by
          have : wEnd B c p = wEnd B c (p + 1) := by unfold wEnd; exact sk_s y w
          rw [this]
          have := (sk_all (f := fun q => isLt (B q)) (n := c) (p + 1)).1
          have E2 : wEnd B c (p + 1) = sk (fun q => isLt (B q)) c (p + 1) := rfl
          omega
        have le := S.2.1 hp
        rw [e_m_words_80, w32_ok (by omega)]
        by_cases u : 12 < wEnd B c p - p
        · rw [if_pos u]; exact ⟨τ, rfl, fr_refl _ _⟩
        · rw [if_neg u]
          by_cases v : τ fM_insides 0 0 = 64
          · rw [if_pos v]; exact ⟨τ, rfl, fr_refl _ _⟩
          · rw [if_neg v, s_m_wordOf (by omega) h0 (by omega) (by omega) (by omega) (fun q a b => by rw [hB]; exact S.2.2.2 q a (by omega))]
            simp only [Option.bind_some]
            rw [ck_ok _ (by omega), w32_ok (by omega)]
            obtain ⟨τ1, e1⟩ : ∃ x, x = ga_up (ga_up τ fM_inside 0 (τ fM_insides 0 0) (pack (wdB (τ fM_story 0) p (wEnd B c p - p)))) fM_insides 0 0 (τ fM_insides 0 0 + 1) := ⟨_, rfl⟩
            have f1 : fr inM τ τ1 := by rw [e1]; exact fr_trans (fr_u (by decide)) (fr_u (by decide))
            rw [← e1]
            obtain ⟨τ', g1, g2⟩ := ih (wEnd B c p) gt y (by omega) le (fun q a b => hq q (by omega) b) τ1 (by rw [f1 _ (by decide)]; exact hB) (by rw [e1, up_eq]; omega)
            exact ⟨τ', g1, fr_trans f1 g2⟩
  · have ep : p = c := by omega
    rcases hC with h | h
    · rw [if_neg (by omega), e_m_words_139, if_neg (by omega)]
      exact ⟨τ, rfl, fr_refl _ _⟩
    · by_cases w : p < e
      · rw [if_pos w, ck_ok _ (by omega), ep, h, if_neg (by decide), ck_ok _ (by omega), if_neg (by decide), ck_ok _ (by omega), s_m_isLetter (by omega)]
        simp only [Option.bind_some]
        rw [show isLt 91 = false from by decide, if_pos b2i_f]
        exact ⟨τ, rfl, fr_refl _ _⟩
      · rw [if_neg w, e_m_words_139, if_neg w]
        exact ⟨τ, rfl, fr_refl _ _⟩
/-- words stand apart -/
theorem sP_2 {B : Int → Int} {c a : Int} (ha : 0 ≤ a ∧ a ≤ c) : ∀ k : Nat, (∀ j, j ≤ k → (sK B true c a j = 0 ∨ 9 ≤ sK B true c a j)) → a + 2 * k ≤ sP B true c a k := by
  intro k
  induction k with
  | zero =>
    intro _
    have : a ≤ sP B true c a 0 := (bl_all (B := B) (x := true) (n := c) a).1
    push_cast
    omega
  | succ k ih =>
    intro h
    have i := ih (fun j hj => h j (by omega))
    have w := tkN_w (x := true) (h k (by omega) : tkK B true c (sP B true c a k) = 0 ∨ 9 ≤ tkK B true c (sP B true c a k))
    have w2 := tkN_w (x := true) (h (k + 1) (Nat.le_refl _) : tkK B true c (sP B true c a (k + 1)) = 0 ∨ 9 ≤ tkK B true c (sP B true c a (k + 1)))
    have gt := (tkN_gt (B := B) (x := true) (n := c) (p := sP B true c a k) (by have := h k (by omega); show sK B true c a k ≠ 7; omega) (by have := h k (by omega); show sK B true c a k ≠ 8; omega)).2
    have e : sP B true c a (k + 1) = bl B true c (tkN B true c (sP B true c a k)) := rfl
    have b := (bl_all (B := B) (x := true) (n := c) (tkN B true c (sP B true c a k))).1
    have ne : sP B true c a (k + 1) ≠ tkN B true c (sP B true c a k) := by
      intro z
      rw [z, w.1] at w2
      have S := sk_all (f := fun q => isLt (B q)) (n := c) (sP B true c a k)
      have := S.2.2.1 w2.2.1
      have u : isLt (B (wEnd B c (sP B true c a k))) = true := w2.2.2.1
      have v : wEnd B c (sP B true c a k) = sk (fun q => isLt (B q)) c (sP B true c a k) := rfl
      rw [v] at u
      rw [u] at this; cases this
    push_cast
    omega
/-- where ] closes the bracket -/
theorem m_words_in {e c a : Int} {B : Int → Int} {M : Nat} {d : Nat} (hd : 4 ≤ d) (he : e ≤ 5000) (hce : c < e) (hC : B c = 93) (ha : 0 ≤ a ∧ a ≤ c) (hac : c - a ≤ 120) (hT : txB B a c) (hq : ∀ q, a ≤ q → q < c → B q ≠ 93 ∧ B q ≠ 91) (hN : brN B c a M) : ∀ p, a ≤ p → p ≤ c → ∀ (k : Nat), k ≤ M → bl B true c p = sP B true c a k → (∀ j, j < k → (sK B true c a j = 0 ∨ 9 ≤ sK B true c a j)) → ∀ τ : ga_S, τ fM_story 0 = B → τ fM_insides 0 0 = k → (∀ j : Nat, j < k → τ fM_inside 0 j = pack (wx B c a j)) → ∃ τ', fr inM τ τ' ∧ (okW B c a M k → m_words_7 d τ e p = some (c + 1, τ') ∧ τ' fM_insides 0 0 = M ∧ ∀ j : Nat, j < M → τ' fM_inside 0 j = pack (wx B c a j)) ∧ (¬ okW B c a M k → m_words_7 d τ e p = some (-1, τ')) := by
  refine pos_ind c fun p ih hap hp k hk hbl hw τ hB hi hin => ?_
  by_cases y : p < c
  · have n93 := hq p hap y
    have tb := hT p hap y
    have e0 : m_words_7 d τ e p = if B p = 32 then m_words_7 d τ e (p + 1) else if isLt (B p) = true then m_words_80 d τ e p (wEnd B c p) else some (-1, τ) := by
      rw [e_m_words_7, hB, if_pos (by omega), ck_ok _ (by omega), if_neg n93.1, ck_ok _ (by omega), w32_ok (by omega), ck_ok _ (by omega), s_m_isLetter (by omega)]
      simp only [Option.bind_some]
      by_cases z : B p = 32
      · rw [if_pos z, if_pos z]
      · rw [if_neg z, if_neg z]
        cases w : isLt (B p) with
        | false => rw [if_pos b2i_f, if_neg (by decide)]
        | true => rw [if_neg b2i_n, if_pos rfl, mm_words_55 (by omega) he p (by omega), hB, wEnd_c (by omega) hp (Or.inr (by rw [hC]; decide))]
    have bs := bl_s (B := B) (x := true) (n := c) y
    rw [if_neg (fun z => by cases z.2), isBl_32 tb.1] at bs
    by_cases z : B p = 32
    · rw [decide_eq_true z, if_pos rfl] at bs
      rw [e0, if_pos z]
      exact ih (p + 1) (by omega) y (by omega) (by omega) k hk (by rw [← bs]; exact hbl) hw τ hB hi hin
    · rw [decide_eq_false z, if_neg (by decide)] at bs
      have ep : p = sP B true c a k := by rw [← bs]; exact hbl
      rw [if_neg z] at e0
      cases w : isLt (B p) with
      | false =>
        rw [w, if_neg (by decide)] at e0
        refine ⟨τ, fr_refl _ _, fun o => ?_, fun _ => e0⟩
        exfalso
        -- the token at p is no word
        by_cases km : k = M
        · have := o.1
          rw [← km] at this
          have e8 := (tkK_8 (B := B) (x := true) (n := c) (p := sP B true c a k)).mp this
          omega
        · have := o.2 k (Nat.le_refl _) (by omega)
          have t := tkN_w (x := true) (this : tkK B true c (sP B true c a k) = 0 ∨ 9 ≤ tkK B true c (sP B true c a k))
          rw [← ep, w] at t
          cases t.2.2.1
      | true =>
        rw [w, if_pos rfl] at e0
        have S := sk_all (f := fun q => isLt (B q)) (n := c) p
        have E : wEnd B c p = sk (fun q => isLt (B q)) c p := rfl
        rw [← E] at S
        have gt : p < wEnd B c p := by
          have h1 : wEnd B c p = wEnd B c (p + 1) := by unfold wEnd; exact sk_s (f := fun q => isLt (B q)) y w
          have h2 := (sk_all (f := fun q => isLt (B q)) (n := c) (p + 1)).1
          have E2 : wEnd B c (p + 1) = sk (fun q => isLt (B q)) c (p + 1) := rfl
          omega
        have le := S.2.1 hp
        have kp : tkK B true c p = if 12 < wEnd B c p - p then 7 else wKey (wdB B p (wEnd B c p - p)) := by
          unfold tkK
          rw [if_neg (by omega), if_neg (fun z => by cases z.2), if_pos w]
        have kr := wKey_r (wdB B p (wEnd B c p - p))
        rw [e_m_words_80, w32_ok (by omega)] at e0
        by_cases u : 12 < wEnd B c p - p
        · rw [if_pos u] at e0 kp
          refine ⟨τ, fr_refl _ _, fun o => ?_, fun _ => e0⟩
          exfalso
          by_cases km : k = M
          · have := o.1
            rw [← km] at this
            have t : sK B true c a k = tkK B true c (sP B true c a k) := rfl
            rw [t, ← ep, kp] at this
            omega
          · have := o.2 k (Nat.le_refl _) (by omega)
            have t : sK B true c a k = tkK B true c (sP B true c a k) := rfl
            rw [t, ← ep, kp] at this
            omega
        · rw [if_neg u] at e0 kp
          have sk0 : sK B true c a k = wKey (wdB B p (wEnd B c p - p)) := by
            have t : sK B true c a k = tkK B true c (sP B true c a k) := rfl
            rw [t, ← ep, kp]
          have km : k < M := by
            refine Classical.byContradiction fun v => ?_
            have : k = M := by omega
            have h := hN.1
            rw [← this, sk0] at h
            omega
          have wk : sK B true c a k = 0 ∨ 9 ≤ sK B true c a k := by rw [sk0]; exact kr.2.2
          have k64 : (k : Int) ≤ 60 := by
            have := sP_2 (B := B) ha k (fun j hj => by
              by_cases v : j = k
              · rw [v]; exact wk
              · exact hw j (by omega))
            omega
          rw [hi, if_neg (by omega), s_m_wordOf (by omega) (by omega) (by omega) (by omega) (by omega) (fun q x1 x2 => by rw [hB]; exact S.2.2.2 q x1 (by omega))] at e0
          simp only [Option.bind_some] at e0
          rw [hi, ck_ok _ (by omega), w32_ok (by omega), hB] at e0
          have tN := tkN_w (x := true) (wk : tkK B true c (sP B true c a k) = 0 ∨ 9 ≤ tkK B true c (sP B true c a k))
          have eW : wdB B p (wEnd B c p - p) = wx B c a k := by
            unfold wx
            have e3 : sE B true c a k = wEnd B c p := by
              have t : sE B true c a k = tkN B true c (sP B true c a k) := rfl
              rw [t, tN.1, ← ep]
            rw [show ((k : Int)).toNat = k by omega, e3, ← ep]
          obtain ⟨τ1, e1⟩ : ∃ x, x = ga_up (ga_up τ fM_inside 0 k (pack (wdB B p (wEnd B c p - p)))) fM_insides 0 0 ((k : Int) + 1) := ⟨_, rfl⟩
          have f1 : fr inM τ τ1 := by rw [e1]; exact fr_trans (fr_u (by decide)) (fr_u (by decide))
          rw [← e1] at e0
          have nb : bl B true c (wEnd B c p) = sP B true c a (k + 1) := by
            have t : sP B true c a (k + 1) = bl B true c (tkN B true c (sP B true c a k)) := rfl
            rw [t, tN.1, ← ep]
          have hw' : ∀ j, j < k + 1 → (sK B true c a j = 0 ∨ 9 ≤ sK B true c a j) := by
            intro j hj
            by_cases v : j = k
            · rw [v]; exact wk
            · exact hw j (by omega)
          obtain ⟨τ', g1, g2, g3⟩ := ih (wEnd B c p) gt y (by omega) le (k + 1) (by omega) nb hw' τ1 (by rw [f1 _ (by decide)]; exact hB) (by rw [e1, up_eq]; push_cast; rfl) (fun j hj => by
            rw [e1, up_F (by decide)]
            by_cases v : j = k
            · rw [v, up_eq, eW]
            · rw [up_i (by omega)]
              exact hin j (by omega))
          have oo : okW B c a M k ↔ okW B c a M (k + 1) := by
            constructor
            · intro o; exact ⟨o.1, fun j a b => o.2 j (by omega) b⟩
            · intro o
              refine ⟨o.1, fun j a b => ?_⟩
              by_cases v : j = k
              · rw [v]; exact wk
              · exact o.2 j (by omega) b
          refine ⟨τ', fr_trans f1 g1, fun o => ?_, fun o => ?_⟩
          · have := g2 (oo.mp o)
            exact ⟨by rw [e0]; exact this.1, this.2⟩
          · rw [e0]; exact g3 (fun v => o (oo.mpr v))
  · have ep : p = c := by omega
    have bn : bl B true c p = p := bl_n (by omega)
    have k8 : sK B true c a k = 8 := by
      have t : sK B true c a k = tkK B true c (sP B true c a k) := rfl
      rw [t]
      refine tkK_8.mpr ?_
      omega
    have km : k = M := by
      refine Classical.byContradiction fun v => ?_
      exact absurd k8 (hN.2 k (by omega)).2
    have run : m_words_7 d τ e p = some (c + 1, τ) := by
      rw [e_m_words_7, hB, if_pos (by omega), ck_ok _ (by omega), ep, if_pos hC, e_m_words_139, if_pos (by omega), w32_ok (by omega)]
    refine ⟨τ, fr_refl _ _, fun _ => ⟨run, by rw [hi, km], fun j hj => hin j (by omega)⟩, fun o => ?_⟩
    exfalso
    exact o ⟨by rw [← km]; exact k8, fun j x1 x2 => by omega⟩

/-! scanning bytes -/
theorem pos_ind (n : Int) {Q : Int → Prop} (h : ∀ p, (∀ q, p < q → p < n → Q q) → Q p) : ∀ p, Q p := by
  have main : ∀ (m : Nat) (p : Int), (n - p).toNat ≤ m → Q p := by
    intro m
    induction m with
    | zero => intro p hp; exact h p (fun q h1 h2 => by omega)
    | succ m ih => intro p hp; exact h p (fun q h1 h2 => ih q (by omega))
  intro p
  exact main _ p (Nat.le_refl _)
def skF (f : Int → Bool) : Nat → Int → Int
  | 0, p => p
  | m + 1, p => bif f p then skF f m (p + 1) else p
/-- the first place from p on, at most n, where f doesn't hold -/
def sk (f : Int → Bool) (n p : Int) : Int := skF f (n - p).toNat p
theorem sk_n {f : Int → Bool} {n p : Int} (h : n ≤ p) : sk f n p = p := by
  unfold sk; rw [show (n - p).toNat = 0 by omega]; rfl
theorem sk_s {f : Int → Bool} {n p : Int} (h : p < n) (hf : f p = true) : sk f n p = sk f n (p + 1) := by
  unfold sk; rw [show (n - p).toNat = (n - (p + 1)).toNat + 1 by omega, skF, hf]; rfl
theorem sk_x {f : Int → Bool} {n p : Int} (h : p < n) (hf : f p = false) : sk f n p = p := by
  unfold sk; rw [show (n - p).toNat = (n - (p + 1)).toNat + 1 by omega, skF, hf]; rfl
theorem sk_all {f : Int → Bool} {n : Int} : ∀ p, p ≤ sk f n p ∧ (p ≤ n → sk f n p ≤ n) ∧ (sk f n p < n → f (sk f n p) = false) ∧ (∀ q, p ≤ q → q < sk f n p → f q = true) := by
  refine rg_ind (n := n) ?_ ?_
  · intro p h
    rw [sk_n h]
    exact ⟨Int.le_refl _, fun z => z, fun z => by omega, fun q a b => by omega⟩
  · intro p h ih
    cases e : f p with
    | true =>
      rw [sk_s h e]
      refine ⟨by omega, fun _ => ih.2.1 (by omega), ih.2.2.1, fun q a b => ?_⟩
      by_cases c : q = p
      · rw [c]; exact e
      · exact ih.2.2.2 q (by omega) b
    | false =>
      rw [sk_x h e]
      exact ⟨Int.le_refl _, fun _ => by omega, fun _ => e, fun q a b => by omega⟩
theorem sk_mid {f : Int → Bool} {n q : Int} : ∀ p, p ≤ q → q ≤ sk f n p → sk f n q = sk f n p := by
  refine rg_ind (n := n) ?_ ?_
  · intro p h h1 h2
    rw [sk_n h] at h2 ⊢
    have : q = p := by omega
    rw [this, sk_n h]
  · intro p h ih h1 h2
    by_cases c : q = p
    · rw [c]
    · cases e : f p with
      | true => rw [sk_s h e] at h2 ⊢; exact ih (by omega) h2
      | false => rw [sk_x h e] at h2; omega
theorem sk_congr {f g : Int → Bool} {n : Int} : ∀ p, (∀ q, p ≤ q → q < n → f q = g q) → sk f n p = sk g n p := by
  refine rg_ind (n := n) ?_ ?_
  · intro p h _; rw [sk_n h, sk_n h]
  · intro p h ih hh
    have e := hh p (by omega) h
    cases ef : f p with
    | true => rw [sk_s h ef, sk_s h (e ▸ ef), ih (fun q a b => hh q (by omega) b)]
    | false => rw [sk_x h ef, sk_x h (e ▸ ef)]
def lowB (b : Int) : Int := if 65 ≤ b ∧ b ≤ 90 then b + 32 else b
def isLt (b : Int) : Bool := decide (97 ≤ lowB b ∧ lowB b ≤ 122)
def isDg (b : Int) : Bool := decide (48 ≤ b ∧ b ≤ 57)
def isBl (b : Int) : Bool := decide (b = 9 ∨ b = 10 ∨ b = 13 ∨ b = 32)
/-- the ] that closes a remark -/
def clo (B : Int → Int) (n p : Int) : Int := sk (fun q => decide (¬ B q = 93)) n p
def blF (B : Int → Int) (x : Bool) (n : Int) : Nat → Int → Int
  | 0, p => p
  | m + 1, p => if p < n then (if B p = 91 ∧ x = false then (if clo B n p < n then blF B x n m (clo B n p + 1) else p) else if isBl (B p) = true then blF B x n m (p + 1) else p) else p
/-- behind blanks and remarks (within a text there are none) -/
def bl (B : Int → Int) (x : Bool) (n p : Int) : Int := blF B x n (n - p).toNat p
theorem blF_fuel (B : Int → Int) (x : Bool) (n : Int) : ∀ (m m' : Nat) (p : Int), n - p ≤ m → n - p ≤ m' → blF B x n m p = blF B x n m' p := by
  intro m
  induction m with
  | zero =>
    intro m' p h h'
    cases m' with
    | zero => rfl
    | succ m' => simp only [blF]; rw [if_neg (by omega)]
  | succ m ih =>
    intro m' p h h'
    cases m' with
    | zero => simp only [blF]; rw [if_neg (by omega)]
    | succ m' =>
      have hc := (sk_all (f := fun q => decide (¬ B q = 93)) (n := n) p).1
      simp only [blF]
      by_cases c : p < n
      · rw [if_pos c, if_pos c, ih m' (p + 1) (by omega) (by omega)]
        by_cases c2 : B p = 91 ∧ x = false
        · rw [if_pos c2, if_pos c2]
          by_cases c3 : clo B n p < n
          · rw [if_pos c3, if_pos c3]
            exact ih m' _ (by unfold clo; omega) (by unfold clo; omega)
          · rw [if_neg c3, if_neg c3]
        · rw [if_neg c2, if_neg c2]
      · rw [if_neg c, if_neg c]
theorem bl_n {B : Int → Int} {x : Bool} {n p : Int} (h : n ≤ p) : bl B x n p = p := by
  unfold bl; rw [show (n - p).toNat = 0 by omega]; rfl
theorem bl_s {B : Int → Int} {x : Bool} {n p : Int} (h : p < n) : bl B x n p = if B p = 91 ∧ x = false then (if clo B n p < n then bl B x n (clo B n p + 1) else p) else if isBl (B p) = true then bl B x n (p + 1) else p := by
  have hc := (sk_all (f := fun q => decide (¬ B q = 93)) (n := n) p).1
  have e : bl B x n p = blF B x n ((n - (p + 1)).toNat + 1) p := by
    unfold bl; rw [show (n - p).toNat = (n - (p + 1)).toNat + 1 by omega]
  rw [e]
  simp only [blF]
  rw [if_pos h]
  by_cases c2 : B p = 91 ∧ x = false
  · rw [if_pos c2, if_pos c2]
    by_cases c3 : clo B n p < n
    · rw [if_pos c3, if_pos c3]
      exact blF_fuel B x n _ _ _ (by unfold clo; omega) (by unfold clo; omega)
    · rw [if_neg c3, if_neg c3]
  · rw [if_neg c2, if_neg c2]; rfl
theorem bl_all {B : Int → Int} {x : Bool} {n : Int} : ∀ p, p ≤ bl B x n p ∧ (p ≤ n → bl B x n p ≤ n) ∧ bl B x n (bl B x n p) = bl B x n p := by
  refine pos_ind n ?_
  intro p ih
  by_cases h : p < n
  · have hc := sk_all (f := fun q => decide (¬ B q = 93)) (n := n) p
    rw [bl_s h]
    by_cases c2 : B p = 91 ∧ x = false
    · rw [if_pos c2]
      by_cases c3 : clo B n p < n
      · rw [if_pos c3]
        have i := ih (clo B n p + 1) (by unfold clo; omega) h
        have := hc.1
        exact ⟨by unfold clo at i ⊢; omega, fun _ => i.2.1 (by omega), i.2.2⟩
      · rw [if_neg c3]
        refine ⟨Int.le_refl _, fun _ => by omega, ?_⟩
        rw [bl_s h, if_pos c2, if_neg c3]
    · rw [if_neg c2]
      by_cases c4 : isBl (B p) = true
      · rw [if_pos c4]
        have i := ih (p + 1) (by omega) h
        exact ⟨by omega, fun _ => i.2.1 (by omega), i.2.2⟩
      · rw [if_neg c4]
        refine ⟨Int.le_refl _, fun _ => by omega, ?_⟩
        rw [bl_s h, if_neg c2, if_neg c4]
  · rw [bl_n (by omega), bl_n (by omega)]
    exact ⟨Int.le_refl _, fun z => z, rfl⟩
/-- where a token must begin: nothing blank, no remark that is closed -/
theorem bl_at {B : Int → Int} {x : Bool} {n p : Int} (e : bl B x n p = p) (h : p < n) : isBl (B p) = false ∧ (B p = 91 → x = false → ¬ clo B n p < n) := by
  rw [bl_s h] at e
  by_cases c2 : B p = 91 ∧ x = false
  · rw [if_pos c2] at e
    refine ⟨by rw [c2.1]; decide, fun _ _ c3 => ?_⟩
    rw [if_pos c3] at e
    have a := (bl_all (B := B) (x := x) (n := n) (clo B n p + 1)).1
    have b := (sk_all (f := fun q => decide (¬ B q = 93)) (n := n) p).1
    unfold clo at *
    omega
  · rw [if_neg c2] at e
    refine ⟨?_, fun a b => absurd ⟨a, b⟩ c2⟩
    cases c4 : isBl (B p) with
    | false => rfl
    | true =>
      rw [if_pos c4] at e
      have a := (bl_all (B := B) (x := x) (n := n) (p + 1)).1
      omega
/-! the model's blanks -/
theorem s_m_blanks_90 {τ : ga_S} (d : Nat) (hn : τ fM_storySize 0 0 ≤ 5000) (v : Int) : ∀ q, 0 ≤ q → m_blanks_90 d τ v q = m_blanks_117 d τ v (sk (fun q => decide (¬ τ fM_story 0 q = 93)) (τ fM_storySize 0 0) q) := by
  refine rg_ind (n := τ fM_storySize 0 0) ?_ ?_
  · intro q h h0
    rw [e_m_blanks_90, if_neg (by omega), sk_n h]
  · intro q h ih h0
    rw [e_m_blanks_90, if_pos h, ck_ok _ (by omega)]
    by_cases c : τ fM_story 0 q = 93
    · rw [if_pos c, sk_x h (by simp [c])]
    · rw [if_neg c, w32_ok (by omega), ih (by omega), sk_s h (by simp [c])]
theorem s_m_blanks_10 {τ : ga_S} (d : Nat) (hn : τ fM_storySize 0 0 ≤ 5000) : ∀ p, 0 ≤ p → p ≤ 5002 → m_blanks_10 d τ p 0 = some (bl (τ fM_story 0) false (τ fM_storySize 0 0) p, τ) := by
  refine pos_ind (τ fM_storySize 0 0) ?_
  intro p ih h0 h5
  have stop : ¬ p < τ fM_storySize 0 0 → m_blanks_68 d τ p 0 = some (p, τ) := by
    intro h
    rw [e_m_blanks_68, if_neg h, e_m_blanks_4, if_pos (by decide)]
  rw [e_m_blanks_10]
  by_cases h : p < τ fM_storySize 0 0
  · rw [if_pos h, ck_ok _ (by omega)]
    have nxt : m_blanks_62 d τ p 0 = some (bl (τ fM_story 0) false (τ fM_storySize 0 0) (p + 1), τ) := by
      rw [e_m_blanks_62, w32_ok (by omega), ih (p + 1) (by omega) h (by omega) (by omega)]
    rw [bl_s h]
    by_cases c1 : τ fM_story 0 p = 9
    · rw [if_pos c1, nxt, if_neg (by omega), if_pos (by simp [isBl, c1])]
    · rw [if_neg c1, ck_ok _ (by omega)]
      by_cases c2 : τ fM_story 0 p = 10
      · rw [if_pos c2, nxt, if_neg (by omega), if_pos (by simp [isBl, c2])]
      · rw [if_neg c2, ck_ok _ (by omega)]
        by_cases c3 : τ fM_story 0 p = 13
        · rw [if_pos c3, nxt, if_neg (by omega), if_pos (by simp [isBl, c3])]
        · rw [if_neg c3, ck_ok _ (by omega)]
          by_cases c4 : τ fM_story 0 p = 32
          · rw [if_pos c4, nxt, if_neg (by omega), if_pos (by simp [isBl, c4])]
          · rw [if_neg c4, e_m_blanks_68, if_pos h, ck_ok _ (by omega)]
            have nb : ¬ isBl (τ fM_story 0 p) = true := by simp [isBl, c1, c2, c3, c4]
            by_cases c5 : τ fM_story 0 p = 91
            · have hc := sk_all (f := fun q => decide (¬ τ fM_story 0 q = 93)) (n := τ fM_storySize 0 0) p
              rw [if_pos c5, s_m_blanks_90 d hn p p h0, e_m_blanks_117, if_pos (show τ fM_story 0 p = 91 ∧ false = false from ⟨c5, rfl⟩)]
              show (if clo (τ fM_story 0) (τ fM_storySize 0 0) p < _ then _ else _) = _
              by_cases c6 : clo (τ fM_story 0) (τ fM_storySize 0 0) p < τ fM_storySize 0 0
              · rw [if_pos c6, if_pos c6, e_m_blanks_131, if_neg (by decide), e_m_blanks_144, e_m_blanks_4, if_neg (by decide)]
                show m_blanks_10 d τ (w32 (clo _ _ p + 1)) 0 = _
                rw [w32_ok (by unfold clo at *; omega), ih _ (by unfold clo; omega) h (by unfold clo; omega) (by omega)]
              · rw [if_neg c6, if_neg c6, e_m_blanks_131, if_pos (by decide), e_m_blanks_144, e_m_blanks_4, if_pos (by decide)]
            · rw [if_neg c5, e_m_blanks_4, if_pos (by decide), if_neg (fun z => c5 z.1), if_neg nb]
  · rw [if_neg h, stop h, bl_n (by omega)]
theorem s_m_blanks {τ : ga_S} {d : Nat} (hd : 1 ≤ d) (hn : τ fM_storySize 0 0 ≤ 5000) {p : Int} (h0 : 0 ≤ p) (h5 : p ≤ 5002) : c_m_blanks d τ p = some (bl (τ fM_story 0) false (τ fM_storySize 0 0) p, τ) := by
  obtain ⟨d, rfl⟩ : ∃ e, d = e + 1 := ⟨d - 1, by omega⟩
  rw [e_m_blanks, e_m_blanks_4, if_neg (by decide), s_m_blanks_10 d hn p h0 h5]

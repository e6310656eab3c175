/-! a deeper run answers the same -/
theorem mo_spl {ρ : Type} {n : Nat} : ∀ {st acc : List ga_V} {k k' : List ga_V → List ga_V → Option ρ} {r : ρ}, (∀ a b, k a b = some r → k' a b = some r) → ga_spl n st acc k = some r → ga_spl n st acc k' = some r := by
  induction n with
  | zero => intro st acc k k' r hk h; unfold ga_spl at h ⊢; exact hk _ _ h
  | succ n ih =>
    intro st acc k k' r hk h
    cases st with
    | nil => cases h
    | cons v st => exact ih hk h
theorem mo_args {ρ : Type} : ∀ {vs : List ga_V} {i : Nat} {k k' : ga_L → Option ρ} {r : ρ}, (∀ a, k a = some r → k' a = some r) → ga_args i vs k = some r → ga_args i vs k' = some r := by
  intro vs
  induction vs with
  | nil => intro i k k' r hk h; exact hk _ h
  | cons q vs ih =>
    intro i k k' r hk h
    obtain ⟨t, v⟩ := q
    exact ih (fun a ha => hk _ ha) h
theorem mo_cond {ρ : Type} {c : Bool} {a a' b : Option ρ} {r : ρ} (ha : a = some r → a' = some r) (h : (bif c then a else b) = some r) : (bif c then a' else b) = some r := by
  cases c with
  | true => exact ha h
  | false => exact h
theorem mo_recv {ρ : Type} {G : ga_G} {inst : Bool} {rc : Nat} {vs : List ga_V} {k k' : Option ρ} {r : ρ} (hk : k = some r → k' = some r) (h : ga_recv G inst rc vs k = some r) : ga_recv G inst rc vs k' = some r := by
  unfold ga_recv at h ⊢
  cases inst with
  | false => exact hk h
  | true =>
    simp only [cond_true] at h ⊢
    split at h
    · exact mo_cond hk h
    · refine mo_cond (fun h2 => ?_) h
      rename_i c v _
      cases e : G.1 c with
      | true => rw [e] at h2; exact hk h2
      | false =>
        rw [e] at h2
        simp only [cond_false] at h2 ⊢
        unfold ga_nn at h2 ⊢
        split at h2
        · rename_i h3; rw [if_pos h3]; exact hk h2
        · cases h2
    · cases h
theorem mo_invoke {ρ : Type} {G : ga_G} {call call' : Nat → List ga_V → ga_S → Option ga_R} (hc : ∀ j vs σ q, call j vs σ = some q → call' j vs σ = some q) {K : Nat → ga_L → List ga_V → ga_S → Option ρ} {inst : Bool} {j na rc : Nat} {rt : Int} {nx : Nat} {L : ga_L} {st : List ga_V} {σ : ga_S} {r : ρ} (h : ga_invoke G call K inst j na rc rt nx L st σ = some r) : ga_invoke G call' K inst j na rc rt nx L st σ = some r := by
  unfold ga_invoke at h ⊢
  refine mo_spl (fun vs rest hk => ?_) h
  refine mo_cond (fun hk => ?_) hk
  refine mo_recv (fun hb => ?_) hk
  cases e : call j vs σ with
  | none => rw [e] at hb; cases hb
  | some q => rw [hc _ _ _ _ e]; rw [e] at hb; exact hb
theorem mo_step {ρ : Type} {G : ga_G} {call call' : Nat → List ga_V → ga_S → Option ga_R} (hc : ∀ j vs σ q, call j vs σ = some q → call' j vs σ = some q) {rk : Nat} {K : Nat → ga_L → List ga_V → ga_S → Option ρ} {Rt : ga_R → Option ρ} {i : Instr} {pc nx a b c e : Nat} {d : Int} {L : ga_L} {st : List ga_V} {σ : ga_S} {r : ρ} (h : ga_step G call rk K Rt i pc nx a b c e d L st σ = some r) : ga_step G call' rk K Rt i pc nx a b c e d L st σ = some r := by
  cases i
  all_goals first
    | exact h
    | exact mo_invoke hc h
theorem mo_it {α β : Type} {nx nx' : α → Option (α ⊕ β)} (hn : ∀ a x, nx a = some x → nx' a = some x) : ∀ (n : Nat) (a : α) (b : β), ga_it nx n a = some b → ga_it nx' n a = some b := by
  intro n
  induction n with
  | zero => intro a b h; cases h
  | succ n ih =>
    intro a b h
    simp only [ga_it] at h ⊢
    cases e : nx a with
    | none => rw [e] at h; cases h
    | some o =>
      rw [e] at h
      rw [hn a o e]
      cases o with
      | inl a' => exact ih a' b h
      | inr b' => exact h
theorem mo_go {G : ga_G} {call call' : Nat → List ga_V → ga_S → Option ga_R} (hc : ∀ j vs σ q, call j vs σ = some q → call' j vs σ = some q) {M : ga_M} {pc : Nat} {L : ga_L} {st : List ga_V} {σ : ga_S} {r : ga_R} (h : ga_go G call M pc L st σ = some r) : ga_go G call' M pc L st σ = some r := by
  unfold ga_go at h ⊢
  obtain ⟨n, hn⟩ := (ga_lp_iff _ _ _).mp h
  refine (ga_lp_iff _ _ _).mpr ⟨n, mo_it (fun a x hx => ?_) n _ _ hn⟩
  unfold ga_nx ga_one at hx ⊢
  exact mo_step hc hx
theorem mo_run {G : ga_G} {tab : Nat → ga_M} {prim : Nat → List ga_V → ga_S → Option ga_R} : ∀ (d j : Nat) (vs : List ga_V) (σ : ga_S) (q : ga_R), ga_run G tab prim d j vs σ = some q → ga_run G tab prim (d + 1) j vs σ = some q := by
  intro d
  induction d with
  | zero => intro j vs σ q h; cases h
  | succ d ih =>
    intro j vs σ q h
    simp only [ga_run] at h ⊢
    refine mo_cond (fun h2 => mo_cond (fun h3 => ?_) h2) h
    exact mo_args (fun L hL => mo_go ih hL) h3
/-- the answer of a run at some depth is that at any greater one -/
theorem am_mono {d e j : Nat} {vs : List ga_V} {σ : ga_S} {q : ga_R} (h : am_run d j vs σ = some q) (hd : d ≤ e) : am_run e j vs σ = some q := by
  obtain ⟨k, rfl⟩ := Nat.exists_eq_add_of_le hd
  clear hd
  induction k with
  | zero => exact h
  | succ k ih => exact mo_run _ _ _ _ _ ih

/-! names as words -/
theorem split32 : ∀ (w w' A A' : List Int), 32 ∉ w → 32 ∉ w' → w ++ 32 :: A = w' ++ 32 :: A' → w = w' ∧ A = A' := by
  intro w
  induction w with
  | nil =>
    intro w' A A' _ h' e
    cases w' with
    | nil => simp at e; exact ⟨rfl, e⟩
    | cons c r => simp at e; exact absurd (e.1 ▸ List.mem_cons_self ..) h'
  | cons c r ih =>
    intro w' A A' h h' e
    cases w' with
    | nil => simp at e; exact absurd (e.1 ▸ List.mem_cons_self ..) h
    | cons c' r' =>
      simp at e
      have i := ih r' A A' (fun z => h (List.mem_cons_of_mem _ z)) (fun z => h' (List.mem_cons_of_mem _ z)) e.2
      exact ⟨by rw [e.1, i.1], i.2⟩
theorem isW_32 {w : List Int} (h : isW w) : 32 ∉ w := fun z => by have := h 32 z; omega
theorem jn_inj : ∀ (W W' : List (List Int)), (∀ w ∈ W, isW w ∧ w ≠ []) → (∀ w ∈ W', isW w ∧ w ≠ []) → jn W = jn W' → W = W' := by
  intro W
  induction W with
  | nil =>
    intro W' _ h' e
    cases W' with
    | nil => rfl
    | cons w r =>
      exfalso
      have hw := (h' w (List.mem_cons_self ..)).2
      cases r with
      | nil => exact hw e.symm
      | cons x r => rw [jn2] at e; simp [jn] at e
  | cons w r ih =>
    intro W' h h' e
    have hw := h w (List.mem_cons_self ..)
    cases W' with
    | nil =>
      exfalso
      cases r with
      | nil => exact hw.2 e
      | cons x r => rw [jn2] at e; simp [jn] at e
    | cons w' r' =>
      have hw' := h' w' (List.mem_cons_self ..)
      cases r with
      | nil =>
        cases r' with
        | nil => rw [jn1, jn1] at e; rw [e]
        | cons x' r' =>
          exfalso
          rw [jn1, jn2] at e
          exact isW_32 hw.1 (e ▸ List.mem_append_right _ (List.mem_cons_self ..))
      | cons x r =>
        cases r' with
        | nil =>
          exfalso
          rw [jn1, jn2] at e
          exact isW_32 hw'.1 (e ▸ List.mem_append_right _ (List.mem_cons_self ..))
        | cons x' r' =>
          rw [jn2, jn2] at e
          have s := split32 _ _ _ _ (isW_32 hw.1) (isW_32 hw'.1) e
          rw [s.1, ih (x' :: r') (fun z hz => h z (List.mem_cons_of_mem _ hz)) (fun z hz => h' z (List.mem_cons_of_mem _ hz)) s.2]
/-- the last word with an s behind it -/
def addS : List (List Int) → List (List Int)
  | [] => []
  | w :: r => match r with
    | [] => [w ++ [115]]
    | _ :: _ => w :: addS r
theorem addS2 (w x : List Int) (r : List (List Int)) : addS (w :: x :: r) = w :: addS (x :: r) := rfl
theorem jn_addS : ∀ (W : List (List Int)), W ≠ [] → jn (addS W) = jn W ++ [115] := by
  intro W
  induction W with
  | nil => intro h; exact absurd rfl h
  | cons w r ih =>
    intro _
    cases r with
    | nil => rfl
    | cons x r =>
      have i := ih (by simp)
      rw [addS2, jn2]
      cases r with
      | nil => show jn [w, x ++ [115]] = _; rw [jn2, jn1, jn1]; simp
      | cons y r =>
        rw [addS2, jn2, ← addS2, i]; simp
theorem addS_W : ∀ (W : List (List Int)), (∀ w ∈ W, isW w ∧ w ≠ []) → ∀ w ∈ addS W, isW w ∧ w ≠ [] := by
  intro W
  induction W with
  | nil => intro _ w hw; cases hw
  | cons w r ih =>
    intro h z hz
    have hw := h w (List.mem_cons_self ..)
    cases r with
    | nil =>
      simp only [addS, List.mem_cons, List.not_mem_nil, or_false] at hz
      rw [hz]
      refine ⟨fun c hc => ?_, by simp⟩
      rcases List.mem_append.mp hc with hc | hc
      · exact hw.1 c hc
      · simp at hc; omega
    | cons x r =>
      rw [addS2] at hz
      rcases List.mem_cons.mp hz with e | e
      · rw [e]; exact hw
      · exact ih (fun a ha => h a (List.mem_cons_of_mem _ ha)) z e
theorem addS_len : ∀ (W : List (List Int)), (addS W).length = W.length := by
  intro W
  induction W with
  | nil => rfl
  | cons w r ih =>
    cases r with
    | nil => rfl
    | cons x r => rw [addS2, List.length_cons, ih]; rfl
/-- the last word of a name has so many letters -/
def lastL : List (List Int) → Nat
  | [] => 0
  | w :: r => match r with
    | [] => w.length
    | _ :: _ => lastL r
theorem lastL_addS : ∀ (W : List (List Int)), W ≠ [] → lastL (addS W) = lastL W + 1 := by
  intro W
  induction W with
  | nil => intro h; exact absurd rfl h
  | cons w r ih =>
    intro _
    cases r with
    | nil => simp [addS, lastL]
    | cons x r =>
      have i := ih (by simp)
      rw [addS2]
      cases r with
      | nil => exact i
      | cons y r => rw [addS2]; rw [addS2] at i; exact i
theorem lastL_le {m : Nat} : ∀ (W : List (List Int)), (∀ w ∈ W, w.length ≤ m) → lastL W ≤ m := by
  intro W
  induction W with
  | nil => intro _; exact Nat.zero_le _
  | cons w r ih =>
    intro h
    cases r with
    | nil => exact h w (List.mem_cons_self ..)
    | cons x r => exact ih (fun a ha => h a (List.mem_cons_of_mem _ ha))
/-- words as tokens have them -/
def wsW (W : List (List Int)) : Prop := ∀ w ∈ W, isW w ∧ w ≠ [] ∧ w.length ≤ 12
theorem wsW_1 {W : List (List Int)} (h : wsW W) : ∀ w ∈ W, isW w ∧ w ≠ [] := fun w hw => ⟨(h w hw).1, (h w hw).2.1⟩
/-- the model's sort and number of a sort and number of the component -/
def sM (s n : Int) : Int := if s = 0 then 0 else if s = 1 then 2 else if s = 2 then 4 else if s = 3 then 5 else if s = 4 then 6 else if s = 5 then 7 else if s = 6 then 8 else if s = 7 then 9 else if s = 8 then 11 else if s = 9 then 12 else if s = 11 then (if n < 100 then 1 else 3) else if s = 12 then 10 else -5
def iM (s n : Int) : Int := if s = 11 ∧ 100 ≤ n then n - 100 else n
/-- entry k of the component and entry k' of the model tell the same -/
def eM (σ τ : ga_S) (k k' : Int) : Prop := ∃ W : List (List Int), wsW W ∧ 1 ≤ W.length ∧ W.length ≤ 3 ∧ (W.length : Int) = τ fM_lexSize 0 k' ∧ (τ fM_lexLong 0 k' = 0 ∨ σ fD_sorts 0 k ≠ 12 → ∀ i : Nat, i < W.length → τ fM_lexWord 0 (3 * k' + i) = pack (W.getD i [])) ∧ ((τ fM_lexLong 0 k' = 0 ∧ ent σ k = jn W) ∨ (τ fM_lexLong 0 k' = 1 ∧ lastL W = 12 ∧ ent σ k = jn (addS W))) ∧ τ fM_lexSort 0 k' = sM (σ fD_sorts 0 k) (σ fD_numbers 0 k) ∧ τ fM_lexIndex 0 k' = iM (σ fD_sorts 0 k) (σ fD_numbers 0 k)
def live (σ : ga_S) (k : Int) : Prop := 0 ≤ k ∧ k < σ fD_count 0 0 ∧ σ fD_sorts 0 k ≠ -1
/-- the two dictionaries tell the same -/
def RD (σ τ : ga_S) : Prop := wfD σ ∧ 0 ≤ τ fM_lexes 0 0 ∧ τ fM_lexes 0 0 ≤ 300 ∧
  (∀ k', 0 ≤ k' → k' < τ fM_lexes 0 0 → ∃ k, live σ k ∧ eM σ τ k k') ∧
  (∀ k, live σ k → ∃ k', 0 ≤ k' ∧ k' < τ fM_lexes 0 0 ∧ eM σ τ k k') ∧
  (∀ k j, live σ k → live σ j → ent σ k = ent σ j → k = j) ∧
  (∀ k j, live σ k → live σ j → σ fD_sorts 0 k = σ fD_sorts 0 j → σ fD_numbers 0 k = σ fD_numbers 0 j → k = j) ∧
  (∀ k, live σ k → 0 ≤ σ fD_sorts 0 k ∧ σ fD_sorts 0 k ≤ 12 ∧ σ fD_sorts 0 k ≠ 10 ∧ 0 ≤ σ fD_numbers 0 k ∧ σ fD_numbers 0 k < 200 ∧ σ fD_sizes 0 k ≤ 40)
theorem RD_fnd {σ τ : ga_S} (h : RD σ τ) {k : Int} (hk : live σ k) : fnd σ (ent σ k) 0 = k := by
  rcases fnd_r (σ := σ) (nm := ent σ k) (Int.le_refl 0) with e | e
  · exact absurd rfl (fnd_n e k hk.1 hk.2.1 hk.2.2)
  · exact h.2.2.2.2.2.1 _ _ ⟨e.1, e.2.1, e.2.2.1⟩ hk e.2.2.2
/-- a name of words that tokens have is an entry's only if that isn't long -/
theorem eM_q {σ τ : ga_S} {k k' : Int} {Q : List (List Int)} (hQ : wsW Q) (h : eM σ τ k k') (e : ent σ k = jn Q) : τ fM_lexLong 0 k' = 0 ∧ (Q.length : Int) = τ fM_lexSize 0 k' ∧ 1 ≤ Q.length ∧ Q.length ≤ 3 ∧ (∀ i : Nat, i < Q.length → τ fM_lexWord 0 (3 * k' + i) = pack (Q.getD i [])) := by
  obtain ⟨W, w1, w2, w3, w4, w5, w6, _⟩ := h
  rcases w6 with w6 | w6
  · have eq : Q = W := jn_inj Q W (wsW_1 hQ) (wsW_1 w1) (e.symm.trans w6.2)
    rw [eq]
    exact ⟨w6.1, w4, w2, w3, w5 (Or.inl w6.1)⟩
  · exfalso
    have hW0 : W ≠ [] := by intro z; rw [z] at w2; simp at w2
    have eq : Q = addS W := jn_inj Q (addS W) (wsW_1 hQ) (addS_W W (wsW_1 w1)) (e.symm.trans w6.2.2)
    have a := lastL_addS W hW0
    have b := lastL_le Q (fun w hw => (hQ w hw).2.2)
    rw [eq, a, w6.2.1] at b
    omega
theorem eM_p {σ τ : ga_S} {k k' : Int} {Q : List (List Int)} (hQ : wsW Q) (h : eM σ τ k k') (hl : τ fM_lexLong 0 k' = 0) (hs : (Q.length : Int) = τ fM_lexSize 0 k') (hw : ∀ i : Nat, i < Q.length → τ fM_lexWord 0 (3 * k' + i) = pack (Q.getD i [])) : ent σ k = jn Q := by
  obtain ⟨W, w1, w2, w3, w4, w5, w6, _⟩ := h
  rcases w6 with w6 | w6
  · rw [w6.2]
    congr 1
    have hlen : W.length = Q.length := by omega
    apply List.ext_getElem hlen
    intro i h1 h2
    have a := w5 (Or.inl w6.1) i h1
    rw [hw i h2] at a
    have g1 : W.getD i [] = W[i] := by rw [List.getD_eq_getElem?_getD, List.getElem?_eq_getElem h1]; rfl
    have g2 : Q.getD i [] = Q[i] := by rw [List.getD_eq_getElem?_getD, List.getElem?_eq_getElem h2]; rfl
    rw [g1, g2] at a
    exact (pack_inj (hQ _ (List.getElem_mem h2)).1 (w1 _ (List.getElem_mem h1)).1 a).symm
  · rw [w6.1] at hl; omega

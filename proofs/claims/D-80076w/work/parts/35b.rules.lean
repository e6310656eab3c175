/-! the rules and definitions that are told, on both sides -/
theorem stT_rows {σ0 : ga_S} {ik nk : Int} {now : Bool} {σ σ' τ τ' : ga_S} {s q : Int} (h : stT σ0 ik nk now σ τ s q) (h1 : ∀ F, F ∈ stL → σ' F s = σ F s) (h2 : ∀ F, F ∈ qL → τ' F 0 q = τ F 0 q) : stT σ0 ik nk now σ' τ' s q := by
  unfold stT at h ⊢
  rw [h1 fS_not (by decide), h1 fS_thing (by decide), h1 fS_what (by decide), h1 fS_other (by decide), h1 fS_which (by decide), h1 fS_value (by decide), h1 fS_length (by decide), h2 fM_qNot (by decide), h2 fM_qThing (by decide), h2 fM_qForm (by decide), h2 fM_qOther (by decide), h2 fM_qProperty (by decide), h2 fM_qWhat (by decide), h2 fM_qLong (by decide)]
  exact h
theorem stP_rows {σ0 : ga_S} {ik nk : Int} {σ σ' τ τ' : ga_S} {s q x : Int} (h : stP σ0 ik nk σ τ s q x) (h1 : ∀ F, F ∈ stL → σ' F s = σ F s) (h2 : ∀ F, F ∈ qL → τ' F 0 q = τ F 0 q) (h3 : ∀ F, F ∈ xL → τ' F 0 x = τ F 0 x) : stP σ0 ik nk σ' τ' s q x := by
  obtain ⟨h0, h⟩ := h
  refine ⟨by rw [h3 fM_qTest (by decide)]; exact h0, ?_⟩
  rw [h3 fM_qPhrase (by decide)]
  have eT : stT σ0 ik nk true σ τ s q → stT σ0 ik nk true σ' τ' s q := fun z => stT_rows z h1 h2
  rw [h1 fS_thing (by decide), h1 fS_what (by decide), h1 fS_other (by decide), h1 fS_which (by decide), h1 fS_value (by decide), h1 fS_length (by decide), h2 fM_qNot (by decide), h2 fM_qThing (by decide), h2 fM_qOther (by decide), h2 fM_qProperty (by decide), h2 fM_qWhat (by decide), h2 fM_qLong (by decide)]
  have eN : nwP σ s → nwP σ' s := fun z => by unfold nwP at z ⊢; rw [h1 fS_what (by decide)]; exact z
  rcases h with h | h | h | h | h | h
  · exact Or.inl h
  · exact Or.inr (Or.inl ⟨h.1, eT h.2.1, eN h.2.2⟩)
  · exact Or.inr (Or.inr (Or.inl h))
  · exact Or.inr (Or.inr (Or.inr (Or.inl h)))
  · exact Or.inr (Or.inr (Or.inr (Or.inr (Or.inl h))))
  · exact Or.inr (Or.inr (Or.inr (Or.inr (Or.inr h))))
theorem hdG_rows {σ0 : ga_S} {nk : Int} {σ σ' τ τ' : ga_S} {n l : Int} (h : hdG σ0 nk σ τ n l) (h1 : ∀ F, F ∈ quL → σ' F n = σ F n) (h2 : ∀ F, F ∈ ruL9 → τ' F 0 l = τ F 0 l) (h3 : ∀ i, 6 * l ≤ i → i < 6 * l + 6 → τ' fM_ruleAdjective 0 i = τ fM_ruleAdjective 0 i) : hdG σ0 nk σ' τ' n l := by
  unfold hdG at h ⊢
  rw [h1 fQ_action (by decide), h1 fQ_object (by decide), h1 fQ_kind (by decide), h1 fQ_adjectives (by decide), h1 fQ_which (by decide), h1 fQ_values (by decide), h2 fM_ruleAction (by decide), h2 fM_ruleObject (by decide), h2 fM_ruleKind (by decide), h2 fM_ruleAdjectives (by decide)]
  obtain ⟨a1, a2, a3, a4, a5, h⟩ := h
  refine ⟨a1, a2, a3, a4, a5, ?_⟩
  rcases h with h | h | h
  · exact Or.inl h
  · exact Or.inr (Or.inl h)
  · obtain ⟨b1, b2, b3, b4, b5, L, l1, l2, l3, l4⟩ := h
    exact Or.inr (Or.inr ⟨b1, b2, b3, b4, b5, L, l1, l2, l3, fun i hi => ⟨(l4 i hi).1, by rw [h3 _ (by omega) (by omega)]; exact (l4 i hi).2⟩⟩)
theorem ruG_rows {σ0 : ga_S} {nk : Int} {σ σ' τ τ' : ga_S} {n l : Int} (h : ruG σ0 nk σ τ n l) (h1 : ∀ F, F ∈ quL → σ' F n = σ F n) (hs : ∀ F, F ∈ stL → ∀ s, 14 * n ≤ s → s < 14 * n + 14 → σ' F s = σ F s) (h2 : ∀ F, F ∈ ruL9 → τ' F 0 l = τ F 0 l) (h3 : ∀ i, 6 * l ≤ i → i < 6 * l + 6 → τ' fM_ruleAdjective 0 i = τ fM_ruleAdjective 0 i) (h4 : ∀ F, F ∈ qL → ∀ k, k < τ fM_tests 0 0 → τ' F 0 k = τ F 0 k) (h5 : ∀ F, F ∈ xL → ∀ k, k < τ fM_phrases 0 0 → τ' F 0 k = τ F 0 k) (h6 : τ fM_tests 0 0 ≤ τ' fM_tests 0 0) (h7 : τ fM_phrases 0 0 ≤ τ' fM_phrases 0 0) : ruG σ0 nk σ' τ' n l := by
  obtain ⟨a1, a2, a3, a4, a5, a6, a7, a8⟩ := h
  have zs := h2 fM_ruleSort (by decide)
  have zt := h2 fM_ruleTests (by decide)
  have zp := h2 fM_rulePhrases (by decide)
  have zf := h2 fM_ruleFrom (by decide)
  have zx := h2 fM_rulePhrase (by decide)
  have qs := h1 fQ_sort (by decide)
  have qt := h1 fQ_tests (by decide)
  have qp := h1 fQ_phrases (by decide)
  unfold ruG
  rw [zs, zt, zp, zf, zx, qs, qt, qp]
  refine ⟨a1, ?_, a3, a4, ⟨a5.1, by omega⟩, ⟨a6.1, by omega⟩, fun k k0 k1 => stT_rows (a7 k k0 k1) (fun F hF => hs F hF _ (by omega) (by omega)) (fun F hF => h4 F hF _ (by omega)), fun k k0 k1 => stP_rows (a8 k k0 k1) (fun F hF => hs F hF _ (by omega) (by omega)) (fun F hF => h4 F hF _ (by omega)) (fun F hF => h5 F hF _ (by omega))⟩
  rcases a2 with z | z
  · refine Or.inl ⟨z.1, z.2.1, ?_⟩
    have y := z.2.2
    unfold hdZ at y ⊢
    rw [h2 fM_ruleAction (by decide), h2 fM_ruleObject (by decide), h2 fM_ruleKind (by decide), h2 fM_ruleAdjectives (by decide), h1 fQ_action (by decide), h1 fQ_object (by decide), h1 fQ_kind (by decide), h1 fQ_adjectives (by decide)]
    exact y
  · exact Or.inr ⟨z.1, hdG_rows z.2 h1 h2 h3⟩
/-- the numbers of rules: in the world, of definitions, the draft -/
def sl (σ : ga_S) (i : Int) : Int := if i < 24 then σ fW_rule 0 i else if i < 48 then σ fW_defined 0 (i - 24) else σ fR_draft 0 0
def SLT (σ : ga_S) : Prop := (∀ i, 0 ≤ i → i < 49 → 0 ≤ sl σ i ∧ sl σ i < 49) ∧ ∀ i j, 0 ≤ i → i < 49 → 0 ≤ j → j < 49 → sl σ i = sl σ j → i = j
/-- what defines an adjective -/
def deG (σ0 σ τ : ga_S) (a : Int) : Prop := σ0 fW_contraries 0 a = -1 → (τ fM_definedTests 0 a = σ fQ_tests (σ fW_defined 0 a) 0 ∧ 1 ≤ σ fQ_tests (σ fW_defined 0 a) 0 ∧ σ fQ_tests (σ fW_defined 0 a) 0 ≤ 6) ∧ (0 ≤ τ fM_definedFrom 0 a ∧ τ fM_definedFrom 0 a + σ fQ_tests (σ fW_defined 0 a) 0 ≤ τ fM_tests 0 0) ∧ ∀ k, 0 ≤ k → k < σ fQ_tests (σ fW_defined 0 a) 0 → stT σ0 (σ0 fW_adjectiveKinds 0 a) (-1) false σ τ (14 * σ fW_defined 0 a + k) (τ fM_definedFrom 0 a + k)
def RL (σ τ : ga_S) : Prop := SLT σ ∧ (τ fM_rules 0 0 = σ fW_rules 0 0 ∧ 0 ≤ σ fW_rules 0 0 ∧ σ fW_rules 0 0 ≤ 24) ∧ (0 ≤ τ fM_tests 0 0 ∧ τ fM_tests 0 0 ≤ 14 * σ fW_rules 0 0 + 6 * σ fW_adjectives 0 0) ∧ (0 ≤ τ fM_phrases 0 0 ∧ τ fM_phrases 0 0 ≤ 8 * σ fW_rules 0 0) ∧ (∀ l, 0 ≤ l → l < σ fW_rules 0 0 → ∃ nk, kO σ nk ∧ ruG σ nk σ τ (σ fW_rule 0 l) l) ∧ (∀ a, 0 ≤ a → a < σ fW_adjectives 0 0 → deG σ σ τ a)
theorem SLT_f {σ σ' : ga_S} (h : SLT σ) (h1 : ∀ F, F ∈ [fW_rule, fW_defined, fR_draft] → σ' F = σ F) : SLT σ' := by
  unfold SLT sl at h ⊢
  rw [h1 fW_rule (by decide), h1 fW_defined (by decide), h1 fR_draft (by decide)]
  exact h
/-- numbers of rules that stand apart -/
theorem sl_r {σ : ga_S} (i : Int) (h : i < 24) : sl σ i = σ fW_rule 0 i := if_pos h
theorem sl_d {σ : ga_S} (a : Int) (h0 : 0 ≤ a) (h : a < 24) : sl σ (a + 24) = σ fW_defined 0 a := by
  unfold sl
  rw [if_neg (by omega), if_pos (by omega), show a + 24 - 24 = a by omega]
theorem sl_x {σ : ga_S} : sl σ 48 = σ fR_draft 0 0 := rfl
theorem SLT_rd {σ : ga_S} (h : SLT σ) {l : Int} (h0 : 0 ≤ l) (h1 : l < 24) : σ fW_rule 0 l ≠ σ fR_draft 0 0 := by
  intro z
  have := h.2 l 48 h0 (by omega) (by omega) (by omega) (by rw [sl_r l h1, sl_x]; exact z)
  omega
theorem SLT_dd {σ : ga_S} (h : SLT σ) {a : Int} (h0 : 0 ≤ a) (h1 : a < 24) : σ fW_defined 0 a ≠ σ fR_draft 0 0 := by
  intro z
  have := h.2 (a + 24) 48 (by omega) (by omega) (by omega) (by omega) (by rw [sl_d a h0 h1, sl_x]; exact z)
  omega
theorem SLT_br {σ : ga_S} (h : SLT σ) {l : Int} (h0 : 0 ≤ l) (h1 : l < 24) : 0 ≤ σ fW_rule 0 l ∧ σ fW_rule 0 l < 49 := by
  have := h.1 l h0 (by omega)
  rw [sl_r l h1] at this; exact this
theorem SLT_bd {σ : ga_S} (h : SLT σ) {a : Int} (h0 : 0 ≤ a) (h1 : a < 24) : 0 ≤ σ fW_defined 0 a ∧ σ fW_defined 0 a < 49 := by
  have := h.1 (a + 24) (by omega) (by omega)
  rw [sl_d a h0 h1] at this; exact this
theorem SLT_bx {σ : ga_S} (h : SLT σ) : 0 ≤ σ fR_draft 0 0 ∧ σ fR_draft 0 0 < 49 := h.1 48 (by omega) (by omega)
/-- a place and the draft change their numbers -/
theorem SLT_swap {σ σ' : ga_S} (h : SLT σ) {p : Int} (h0 : 0 ≤ p) (h1 : p < 48) (e : ∀ i, 0 ≤ i → i < 49 → sl σ' i = if i = p then sl σ 48 else if i = 48 then sl σ p else sl σ i) : SLT σ' := by
  obtain ⟨a, b⟩ := h
  have t : ∀ i, 0 ≤ i → i < 49 → ∃ j, 0 ≤ j ∧ j < 49 ∧ sl σ' i = sl σ j ∧ j = (if i = p then 48 else if i = 48 then p else i) := by
    intro i i0 i1
    refine ⟨if i = p then 48 else if i = 48 then p else i, ?_, ?_, ?_, rfl⟩
    · split
      · omega
      · split <;> omega
    · split
      · omega
      · split <;> omega
    · rw [e i i0 i1]
      split
      · rfl
      · split <;> rfl
  refine ⟨fun i i0 i1 => ?_, fun i j i0 i1 j0 j1 z => ?_⟩
  · obtain ⟨k, k0, k1, k2, _⟩ := t i i0 i1
    rw [k2]; exact a k k0 k1
  · obtain ⟨k, k0, k1, k2, k3⟩ := t i i0 i1
    obtain ⟨m, m0, m1, m2, m3⟩ := t j j0 j1
    have := b k m k0 k1 m0 m1 (by rw [← k2, ← m2]; exact z)
    rw [k3, m3] at this
    split at this
    · split at this
      · omega
      · split at this <;> omega
    · split at this
      · split at this
        · omega
        · split at this <;> omega
      · split at this
        · omega
        · split at this <;> omega
def rlC : List Nat := [fW_rule, fW_defined, fR_draft, fW_rules] ++ quL ++ stL
def rlM : List Nat := [fM_rules, fM_tests, fM_phrases, fM_definedFrom, fM_ruleAdjective] ++ ruL9 ++ qL ++ xL
theorem nmR_D {σ τ : ga_S} (R : RD σ τ) (W : WKd σ) : nmR σ := fun nm s => by
  rcases dN_rg R W nm s with z | z
  · exact Or.inl z
  · exact Or.inr ⟨z.1, z.2.1⟩
/-- the world grows, rules and definitions stay -/
theorem RL_grow {σ τ σ' τ' : ga_S} (h : RL σ τ) (G : GC σ σ') (D : GD σ σ') (R : nmR σ) (K : kdR σ) (K' : kdR σ') (Wa : WKa σ τ) {L M : List Nat} (f1 : fr L σ σ') (hL : rlC.all (fun F => !(L.contains F)) = true) (f2 : fr M τ τ') (hM : rlM.all (fun F => !(M.contains F)) = true) (hd : ∀ a, 0 ≤ a → a < σ fW_adjectives 0 0 → τ' fM_definedTests 0 a = τ fM_definedTests 0 a) (hn : ∀ a, σ fW_adjectives 0 0 ≤ a → a < σ' fW_adjectives 0 0 → σ' fW_contraries 0 a ≠ -1) : RL σ' τ' := by
  obtain ⟨h1, h2, h3, h4, h5, h6⟩ := h
  have Z : GZ σ σ' := ⟨G, K, K'⟩
  have c : ∀ F, F ∈ rlC → σ' F = σ F := fun F hF => fr_no f1 hL hF
  have m : ∀ F, F ∈ rlM → τ' F = τ F := fun F hF => fr_no f2 hM hF
  have ca := G.1 fW_adjectives (by decide)
  have cq : ∀ F, F ∈ quL → σ' F = σ F := fun F hF => c F (mem_all (L := quL) (by decide) F hF)
  have cs : ∀ F, F ∈ stL → σ' F = σ F := fun F hF => c F (mem_all (L := stL) (by decide) F hF)
  have m9 : ∀ F, F ∈ ruL9 → τ' F = τ F := fun F hF => m F (mem_all (L := ruL9) (by decide) F hF)
  have mq : ∀ F, F ∈ qL → τ' F = τ F := fun F hF => m F (mem_all (L := qL) (by decide) F hF)
  have mx : ∀ F, F ∈ xL → τ' F = τ F := fun F hF => m F (mem_all (L := xL) (by decide) F hF)
  have mt := m fM_tests (by decide)
  have mp := m fM_phrases (by decide)
  refine ⟨SLT_f h1 (fun F hF => c F (mem_all (L := [fW_rule, fW_defined, fR_draft]) (by decide) F hF)), by rw [m fM_rules (by decide), c fW_rules (by decide)]; exact h2, by rw [mt, c fW_rules (by decide)]; exact ⟨h3.1, by omega⟩, by rw [mp, c fW_rules (by decide)]; exact h4, fun l l0 l1 => ?_, fun a a0 a1 => ?_⟩
  · rw [c fW_rules (by decide)] at l1
    obtain ⟨nk, x1, x2⟩ := h5 l l0 l1
    have y := ruG_rows x2 (σ' := σ') (τ' := τ') (fun F hF => by rw [cq F hF]) (fun F hF s _ _ => by rw [cs F hF]) (fun F hF => by rw [m9 F hF]) (fun i _ _ => by rw [m fM_ruleAdjective (by decide)]) (fun F hF k _ => by rw [mq F hF]) (fun F hF k _ => by rw [mx F hF]) (by rw [mt]; exact Int.le_refl _) (by rw [mp]; exact Int.le_refl _)
    rw [c fW_rule (by decide)]
    exact ruG_g Z D R x1 y
  · by_cases z : a < σ fW_adjectives 0 0
    · intro e
      have g := G.2.2.2.1 a a0 z
      rw [g.2] at e
      have x := h6 a a0 z e
      rw [g.1, c fW_defined (by decide), cq fQ_tests (by decide), m fM_definedFrom (by decide), mt, hd a a0 z]
      refine ⟨x.1, x.2.1, fun k k0 k1 => ?_⟩
      have wa := (Wa.2.2.2 a a0 z).1
      exact stT_g Z (Or.inr ⟨wa.1, wa.2.1⟩) (Or.inl ⟨rfl, rfl⟩) (stT_rows (x.2.2 k k0 k1) (fun F hF => by rw [cs F hF]) (fun F hF => by rw [mq F hF]))
    · intro e
      exact absurd e (hn a (by omega) a1)

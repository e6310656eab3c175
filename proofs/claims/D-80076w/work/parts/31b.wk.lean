/-! frames of the world's parts -/
def WKkC : List Nat := [fW_parents, fW_kinds]
def WKkM : List Nat := [fM_kinds, fM_above]
theorem WKk_f {σ τ σ' τ' : ga_S} (h : WKk σ τ) (h1 : ∀ F, F ∈ WKkC → σ' F = σ F) (h2 : ∀ F, F ∈ WKkM → τ' F = τ F) : WKk σ' τ' := by
  unfold WKk at h ⊢
  rw [h1 fW_parents (by decide), h1 fW_kinds (by decide), h2 fM_kinds (by decide), h2 fM_above (by decide)]
  exact h
def WKoC : List Nat := [fW_objects, fW_kindOf, fW_kinds]
def WKoM : List Nat := [fM_objects, fM_kindOf]
theorem WKo_f {σ τ σ' τ' : ga_S} (h : WKo σ τ) (h1 : ∀ F, F ∈ WKoC → σ' F = σ F) (h2 : ∀ F, F ∈ WKoM → τ' F = τ F) : WKo σ' τ' := by
  unfold WKo at h ⊢
  rw [h1 fW_objects (by decide), h1 fW_kindOf (by decide), h1 fW_kinds (by decide), h2 fM_objects (by decide), h2 fM_kindOf (by decide)]
  exact h
def WKaC : List Nat := [fW_adjectives, fW_adjectiveKinds, fW_kinds, fW_contraries]
def WKaM : List Nat := [fM_adjectives, fM_adjectiveKind, fM_contrary, fM_definedTests]
theorem WKa_f {σ τ σ' τ' : ga_S} (h : WKa σ τ) (h1 : ∀ F, F ∈ WKaC → σ' F = σ F) (h2 : ∀ F, F ∈ WKaM → τ' F = τ F) : WKa σ' τ' := by
  unfold WKa at h ⊢
  rw [h1 fW_adjectives (by decide), h1 fW_adjectiveKinds (by decide), h1 fW_kinds (by decide), h1 fW_contraries (by decide), h2 fM_adjectives (by decide), h2 fM_adjectiveKind (by decide), h2 fM_contrary (by decide), h2 fM_definedTests (by decide)]
  exact h
def WKtC : List Nat := [fW_types, fW_typeValues, fW_values, fW_valueTypes]
def WKtM : List Nat := [fM_types]
theorem WKt_f {σ τ σ' τ' : ga_S} (h : WKt σ τ) (h1 : ∀ F, F ∈ WKtC → σ' F = σ F) (h2 : ∀ F, F ∈ WKtM → τ' F = τ F) : WKt σ' τ' := by
  unfold WKt cntV at h ⊢
  rw [h1 fW_types (by decide), h1 fW_typeValues (by decide), h1 fW_values (by decide), h1 fW_valueTypes (by decide), h2 fM_types (by decide)]
  exact h
def WKvC : List Nat := [fW_values, fW_valueTypes, fW_types]
def WKvM : List Nat := [fM_values, fM_valueType]
theorem WKv_f {σ τ σ' τ' : ga_S} (h : WKv σ τ) (h1 : ∀ F, F ∈ WKvC → σ' F = σ F) (h2 : ∀ F, F ∈ WKvM → τ' F = τ F) : WKv σ' τ' := by
  unfold WKv at h ⊢
  rw [h1 fW_values (by decide), h1 fW_valueTypes (by decide), h1 fW_types (by decide), h2 fM_values (by decide), h2 fM_valueType (by decide)]
  exact h
def WKpC : List Nat := [fW_properties, fW_propertyTypes, fW_types, fW_kinds, fW_propertyKinds]
def WKpM : List Nat := [fM_properties, fM_propertyType, fM_kindHas]
theorem WKp_f {σ τ σ' τ' : ga_S} (h : WKp σ τ) (h1 : ∀ F, F ∈ WKpC → σ' F = σ F) (h2 : ∀ F, F ∈ WKpM → τ' F = τ F) : WKp σ' τ' := by
  unfold WKp at h ⊢
  rw [h1 fW_properties (by decide), h1 fW_propertyTypes (by decide), h1 fW_types (by decide), h1 fW_kinds (by decide), h1 fW_propertyKinds (by decide), h2 fM_properties (by decide), h2 fM_propertyType (by decide), h2 fM_kindHas (by decide)]
  exact h
def WKrC : List Nat := [fW_relations, fW_relationA, fW_relationB, fW_kinds]
def WKrM : List Nat := [fM_relations, fM_relates, fM_relatesTo]
theorem WKr_f {σ τ σ' τ' : ga_S} (h : WKr σ τ) (h1 : ∀ F, F ∈ WKrC → σ' F = σ F) (h2 : ∀ F, F ∈ WKrM → τ' F = τ F) : WKr σ' τ' := by
  unfold WKr at h ⊢
  rw [h1 fW_relations (by decide), h1 fW_relationA (by decide), h1 fW_relationB (by decide), h1 fW_kinds (by decide), h2 fM_relations (by decide), h2 fM_relates (by decide), h2 fM_relatesTo (by decide)]
  exact h
def WKbC : List Nat := [fW_verbs, fW_verbRelations, fW_relations]
def WKbM : List Nat := [fM_verbs, fM_verbRelation]
theorem WKb_f {σ τ σ' τ' : ga_S} (h : WKb σ τ) (h1 : ∀ F, F ∈ WKbC → σ' F = σ F) (h2 : ∀ F, F ∈ WKbM → τ' F = τ F) : WKb σ' τ' := by
  unfold WKb at h ⊢
  rw [h1 fW_verbs (by decide), h1 fW_verbRelations (by decide), h1 fW_relations (by decide), h2 fM_verbs (by decide), h2 fM_verbRelation (by decide)]
  exact h
def WKcC : List Nat := [fW_actions, fW_actionKinds, fW_kinds]
def WKcM : List Nat := [fM_actions, fM_actionKind]
theorem WKc_f {σ τ σ' τ' : ga_S} (h : WKc σ τ) (h1 : ∀ F, F ∈ WKcC → σ' F = σ F) (h2 : ∀ F, F ∈ WKcM → τ' F = τ F) : WKc σ' τ' := by
  unfold WKc at h ⊢
  rw [h1 fW_actions (by decide), h1 fW_actionKinds (by decide), h1 fW_kinds (by decide), h2 fM_actions (by decide), h2 fM_actionKind (by decide)]
  exact h
/-- the dictionary is the same, there may be more of all -/
theorem WKd_up {σ σ' : ga_S} (h : WKd σ) (h1 : ∀ F, F ∈ dicL → σ' F = σ F) (h2 : ∀ F, F ∈ cntL → σ F 0 0 ≤ σ' F 0 0) : WKd σ' := by
  intro k l
  have l' : live σ k := by
    unfold live at l ⊢
    rw [h1 fD_count (by decide), h1 fD_sorts (by decide)] at l
    exact l
  have a := h k l'
  rw [h1 fD_sorts (by decide), h1 fD_numbers (by decide)]
  have k1 := h2 fW_kinds (by decide)
  have k2 := h2 fW_types (by decide)
  have k3 := h2 fW_objects (by decide)
  have k4 := h2 fW_adjectives (by decide)
  have k5 := h2 fW_values (by decide)
  have k6 := h2 fW_properties (by decide)
  have k7 := h2 fW_relations (by decide)
  have k8 := h2 fW_verbs (by decide)
  have k9 := h2 fW_actions (by decide)
  have m : ∀ s, mxN σ s ≤ mxN σ' s := by
    intro s
    unfold mxN
    by_cases c0 : s = 0
    · rw [if_pos c0, if_pos c0]; exact k1
    rw [if_neg c0, if_neg c0]
    by_cases c1 : s = 1
    · rw [if_pos c1, if_pos c1]; exact k2
    rw [if_neg c1, if_neg c1]
    by_cases c2 : s = 2
    · rw [if_pos c2, if_pos c2]; exact k3
    rw [if_neg c2, if_neg c2]
    by_cases c3 : s = 3
    · rw [if_pos c3, if_pos c3]; exact k4
    rw [if_neg c3, if_neg c3]
    by_cases c4 : s = 4
    · rw [if_pos c4, if_pos c4]; exact k5
    rw [if_neg c4, if_neg c4]
    by_cases c5 : s = 5
    · rw [if_pos c5, if_pos c5]; exact k6
    rw [if_neg c5, if_neg c5]
    by_cases c6 : s = 6
    · rw [if_pos c6, if_pos c6]; exact k7
    rw [if_neg c6, if_neg c6]
    by_cases c7 : s = 7
    · rw [if_pos c7, if_pos c7]; exact k8
    rw [if_neg c7, if_neg c7]
    by_cases c8 : s = 8
    · rw [if_pos c8, if_pos c8]; exact k9
    rw [if_neg c8, if_neg c8]
    by_cases c9 : s = 9
    · rw [if_pos c9, if_pos c9]; exact Int.le_refl _
    rw [if_neg c9, if_neg c9]
    by_cases c12 : s = 12
    · rw [if_pos c12, if_pos c12]; exact k8
    rw [if_neg c12, if_neg c12]; exact Int.le_refl _
  have := m (σ fD_sorts 0 k)
  refine ⟨by omega, fun z => ?_⟩
  have := a.2 z
  omega
theorem WKl_up {σ σ' : ga_S} (h : WKl σ) (h1 : ∀ F, F ∈ dicL → σ' F = σ F) : WKl σ' := by
  have D := dic_c h1
  unfold WKl at h ⊢
  rw [D.1, h1 fD_sorts (by decide)]
  exact h
theorem RD_cm {σ τ σ' τ' : ga_S} (h : RD σ τ) (h1 : ∀ F, F ∈ dicL → σ' F = σ F) (h2 : ∀ F, F ∈ lexL → τ' F = τ F) : RD σ' τ' := by
  refine RD_m h2 ?_
  have D := dic_c h1
  unfold RD eM live ent at h ⊢
  rw [h1 fD_count (by decide), h1 fD_sorts (by decide), h1 fD_numbers (by decide), h1 fD_sizes (by decide), h1 fD_letters (by decide), h1 fD_froms (by decide)]
  exact ⟨D.2.2.2 h.1, h.2⟩
theorem DB_cm {σ τ σ' τ' : ga_S} {g : Int} (h : DB σ τ g) (h1 : ∀ F, F ∈ dicL → σ' F = σ F) (h2 : ∀ F, F ∈ lexL → τ' F = τ F) : DB σ' τ' g := by
  unfold DB MI at h ⊢
  rw [h1 fD_count (by decide), h1 fD_used (by decide), h2 fM_lexes (by decide), h2 fM_lexSort (by decide), h2 fM_lexIndex (by decide)]
  exact h

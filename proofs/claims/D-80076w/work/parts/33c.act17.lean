/-! the act of a property that a kind has -/
/-- no bits beyond the kinds, nothing beyond the properties -/
def kb0 (σ τ : ga_S) : Prop := (∀ p k, 0 ≤ p → p < σ fW_properties 0 0 → σ fW_kinds 0 0 ≤ k → k < 16 → bitI (σ fW_propertyKinds 0 p) k = false) ∧ (∀ k p, 0 ≤ k → k < σ fW_kinds 0 0 → σ fW_properties 0 0 ≤ p → p < 12 → τ fM_kindHas 0 (12 * k + p) = 0)
theorem kb0_f {σ τ σ' τ' : ga_S} (h : kb0 σ τ) (h1 : ∀ F, F ∈ [fW_properties, fW_kinds, fW_propertyKinds] → σ' F = σ F) (h2 : τ' fM_kindHas = τ fM_kindHas) : kb0 σ' τ' := by
  unfold kb0 at h ⊢
  rw [h1 fW_properties (by decide), h1 fW_kinds (by decide), h1 fW_propertyKinds (by decide), h2]
  exact h
/-- more properties leave what is told -/
theorem RWh_prop {σ τ σ' τ' : ga_S} (h : RWh σ τ) {L M : List Nat} (h1 : fr L σ σ') (hL : [fW_has, fW_numbers, fW_lengths, fW_values, fW_valueTypes, fW_objects, fW_kinds].all (fun F => !(L.contains F)) = true) (h0 : σ' fT_size 0 = σ fT_size 0 ∧ σ' fT_bytes 0 = σ fT_bytes 0) (h2 : fr M τ τ') (hM : rhM.all (fun F => !(M.contains F)) = true) (hv : σ fW_properties 0 0 ≤ σ' fW_properties 0 0) (ht : ∀ i, 0 ≤ i → i < σ fW_properties 0 0 → σ' fW_propertyTypes 0 i = σ fW_propertyTypes 0 i) : RWh σ' τ' := by
  have g := fr_mem h1 hL
  have k := fr_mem h2 hM
  have row : ∀ Ft Fs Fl base r, Ft ∈ rhM → Fs ∈ rhM → Fl ∈ rhM → rowH σ τ Ft Fs Fl base r → rowH σ' τ' Ft Fs Fl base r := by
    intro Ft Fs Fl base r i1 i2 i3 w p p0 p1
    have x := w p p0 p1
    rw [g fW_has (by decide), g fW_numbers (by decide), g fW_lengths (by decide), k Ft i1, k Fs i2, k Fl i3]
    refine ⟨x.1, x.2.1, fun z => ?_⟩
    have y := x.2.2 z
    have et := ht p p0 y.1
    unfold sTx at y ⊢
    rw [h0.1, h0.2]
    refine ⟨by omega, by rw [et]; exact y.2.1, by rw [et]; exact y.2.2.1, ?_⟩
    have q := y.2.2.2
    unfold vlO at q ⊢
    rw [et, h0.1, h0.2, g fW_values (by decide), g fW_valueTypes (by decide)]
    exact q
  obtain ⟨a, b, c⟩ := h
  refine ⟨fun o o0 o1 => ?_, fun j j0 j1 => ?_, fun r p z p0 p1 => ?_⟩
  · rw [g fW_objects (by decide)] at o1
    exact row _ _ _ _ _ (by decide) (by decide) (by decide) (a o o0 o1)
  · rw [g fW_kinds (by decide)] at j1
    exact row _ _ _ _ _ (by decide) (by decide) (by decide) (b j j0 j1)
  · rw [g fW_objects (by decide), g fW_kinds (by decide)] at z
    rw [g fW_has (by decide)]
    exact c r p z p0 p1
section
variable {σ τ : ga_S} {f : Int} {N : Nat}
def a17C : List Nat := [fW_properties, fW_propertyTypes, fW_propertyKinds] ++ dicL ++ spL ++ ntL
def a17M : List Nat := [fM_properties, fM_propertyType, fM_kindHas] ++ lexL ++ [fM_bestFault, fM_bestPlace]
/-- kind K has property P: the bit and the place -/
theorem has_more {ρ υ ρ' υ' : ga_S} {K P : Int} (Wp : WKp ρ υ) (kb : kb0 ρ υ) (hk : 0 ≤ K ∧ K < ρ fW_kinds 0 0) (k16 : ρ fW_kinds 0 0 ≤ 16) (hp : 0 ≤ P ∧ P < ρ fW_properties 0 0) (e1 : ρ' = ga_up ρ fW_propertyKinds 0 P (ga_ior (ρ fW_propertyKinds 0 P) (ga_ishl 1 K))) (e2 : υ' = ga_up υ fM_kindHas 0 (12 * K + P) 1) : WKp ρ' υ' ∧ kb0 ρ' υ' := by
  have f1 : fr [fW_propertyKinds] ρ ρ' := by rw [e1]; exact fr_u (by decide)
  have f2 : fr [fM_kindHas] υ υ' := by rw [e2]; exact fr_u (by decide)
  have p12 := Wp.2.1
  have gk : ∀ p, ρ' fW_propertyKinds 0 p = if p = P then ga_ior (ρ fW_propertyKinds 0 P) (ga_ishl 1 K) else ρ fW_propertyKinds 0 p := by
    intro p; rw [e1, up_at]
  have gh : ∀ i, υ' fM_kindHas 0 i = if i = 12 * K + P then 1 else υ fM_kindHas 0 i := by
    intro i; rw [e2, up_at]
  refine ⟨⟨by rw [f1 _ (by decide)]; exact Wp.1, by rw [f1 _ (by decide)]; exact p12, by rw [f1 _ (by decide), f2 _ (by decide)]; exact Wp.2.2.1, ?_, fun k p k0 k1 p0 p1 => ?_⟩, fun p k p0 p1 k0 k1 => ?_, fun k p k0 k1 p0 p1 => ?_⟩
  · rw [f1 fW_properties (by decide), f1 fW_propertyTypes (by decide), f1 fW_types (by decide), f2 fM_propertyType (by decide)]
    exact Wp.2.2.2.1
  · rw [f1 fW_kinds (by decide)] at k1
    rw [f1 fW_properties (by decide)] at p1
    have o := Wp.2.2.2.2 k p k0 k1 p0 p1
    rw [gh, gk]
    by_cases c : p = P
    · rw [if_pos c, bitI_or _ K k (by omega) (by omega)]
      by_cases c2 : k = K
      · rw [if_pos (by rw [c, c2]), decide_eq_true c2, Bool.or_true]; rfl
      · rw [if_neg (by omega), decide_eq_false c2, Bool.or_false, ← c]; exact o
    · rw [if_neg c, if_neg (by omega)]; exact o
  · rw [f1 fW_kinds (by decide)] at k0
    rw [f1 fW_properties (by decide)] at p1
    rw [gk]
    by_cases c : p = P
    · rw [if_pos c, bitI_or _ K k (by omega) (by omega), decide_eq_false (by omega), Bool.or_false, ← c]
      exact kb.1 p k p0 p1 k0 k1
    · rw [if_neg c]; exact kb.1 p k p0 p1 k0 k1
  · rw [f1 fW_kinds (by decide)] at k1
    rw [f1 fW_properties (by decide)] at p0
    rw [gh, if_neg (by omega)]
    exact kb.2 k p k0 k1 p0 p1
end

/-! the world, on both sides: what is told of it -/
/-- a row of adjectives -/
def rowT (σ τ : ga_S) (F : Nat) (base r : Int) : Prop := ∀ a, 0 ≤ a → a < 24 → (σ fW_told r a = 0 ∨ σ fW_told r a = 1) ∧ ((a < σ fW_adjectives 0 0 ∧ σ fW_contraries 0 a ≠ -1 ∧ τ F 0 (base + a) = tv σ r a ∧ (σ fW_told r a = 0 ∨ σ fW_told r (σ fW_contraries 0 a) = 0)) ∨ ((σ fW_adjectives 0 0 ≤ a ∨ σ fW_contraries 0 a = -1) ∧ σ fW_told r a = 0 ∧ τ F 0 (base + a) = 0))
def RWt (σ τ : ga_S) : Prop := (∀ o, 0 ≤ o → o < σ fW_objects 0 0 → rowT σ τ fM_objectIs (24 * o) o) ∧ (∀ k, 0 ≤ k → k < σ fW_kinds 0 0 → rowT σ τ fM_kindIs (24 * k) (24 + k)) ∧ (∀ r a, (σ fW_objects 0 0 ≤ r ∧ r < 24) ∨ (24 + σ fW_kinds 0 0 ≤ r ∧ r < 40) → 0 ≤ a → a < 24 → σ fW_told r a = 0)
def rtC : List Nat := [fW_told, fW_adjectives, fW_contraries, fW_objects, fW_kinds]
def rtM : List Nat := [fM_objectIs, fM_kindIs]
theorem RWt_f {σ τ σ' τ' : ga_S} (h : RWt σ τ) (h1 : ∀ F, F ∈ rtC → σ' F = σ F) (h2 : ∀ F, F ∈ rtM → τ' F = τ F) : RWt σ' τ' := by
  unfold RWt rowT tv at h ⊢
  rw [h1 fW_told (by decide), h1 fW_adjectives (by decide), h1 fW_contraries (by decide), h1 fW_objects (by decide), h1 fW_kinds (by decide), h2 fM_objectIs (by decide), h2 fM_kindIs (by decide)]
  exact h
/-- what a property may be -/
def vlO (σ : ga_S) (p v n : Int) : Prop := (σ fW_propertyTypes 0 p = 0 → -1000000 < v ∧ v < 1000000) ∧ (σ fW_propertyTypes 0 p = 1 → 0 ≤ v ∧ 0 ≤ n ∧ v + n ≤ σ fT_size 0 0 ∧ ∀ i, 0 ≤ i → i < n → 0 ≤ σ fT_bytes 0 (v + i)) ∧ (2 ≤ σ fW_propertyTypes 0 p → 0 ≤ v ∧ v < σ fW_values 0 0 ∧ σ fW_valueTypes 0 v = σ fW_propertyTypes 0 p)
/-- the same text at two places -/
def sTx (σ : ga_S) (x y n : Int) : Prop := 0 ≤ y ∧ y + n ≤ σ fT_size 0 0 ∧ ∀ i, 0 ≤ i → i < n → σ fT_bytes 0 (y + i) = σ fT_bytes 0 (x + i)
/-- a row of properties -/
def rowH (σ τ : ga_S) (Ft Fs Fl : Nat) (base r : Int) : Prop := ∀ p, 0 ≤ p → p < 12 → (σ fW_has r p = 0 ∨ σ fW_has r p = 1) ∧ τ Ft 0 (base + p) = σ fW_has r p ∧ (σ fW_has r p ≠ 0 → p < σ fW_properties 0 0 ∧ (σ fW_propertyTypes 0 p ≠ 1 → τ Fs 0 (base + p) = σ fW_numbers r p) ∧ (σ fW_propertyTypes 0 p = 1 → τ Fl 0 (base + p) = σ fW_lengths r p ∧ sTx σ (σ fW_numbers r p) (τ Fs 0 (base + p)) (σ fW_lengths r p)) ∧ vlO σ p (σ fW_numbers r p) (σ fW_lengths r p))
def RWh (σ τ : ga_S) : Prop := (∀ o, 0 ≤ o → o < σ fW_objects 0 0 → rowH σ τ fM_objectTold fM_objectSays fM_objectLong (12 * o) o) ∧ (∀ k, 0 ≤ k → k < σ fW_kinds 0 0 → rowH σ τ fM_kindTold fM_kindSays fM_kindLong (12 * k) (24 + k)) ∧ (∀ r p, (σ fW_objects 0 0 ≤ r ∧ r < 24) ∨ (24 + σ fW_kinds 0 0 ≤ r ∧ r < 40) → 0 ≤ p → p < 12 → σ fW_has r p = 0)
def rhC : List Nat := [fW_has, fW_numbers, fW_lengths, fW_properties, fW_propertyTypes, fW_objects, fW_kinds, fW_values, fW_valueTypes]
def rhM : List Nat := [fM_objectTold, fM_objectSays, fM_objectLong, fM_kindTold, fM_kindSays, fM_kindLong]
theorem RWh_f {σ τ σ' τ' : ga_S} (h : RWh σ τ) (h1 : ∀ F, F ∈ rhC → σ' F = σ F) (h0 : σ' fT_size 0 = σ fT_size 0 ∧ σ' fT_bytes 0 = σ fT_bytes 0) (h2 : ∀ F, F ∈ rhM → τ' F = τ F) : RWh σ' τ' := by
  unfold RWh rowH vlO sTx at h ⊢
  rw [h1 fW_has (by decide), h1 fW_numbers (by decide), h1 fW_lengths (by decide), h1 fW_properties (by decide), h1 fW_propertyTypes (by decide), h1 fW_objects (by decide), h1 fW_kinds (by decide), h1 fW_values (by decide), h1 fW_valueTypes (by decide), h0.1, h0.2, h2 fM_objectTold (by decide), h2 fM_objectSays (by decide), h2 fM_objectLong (by decide), h2 fM_kindTold (by decide), h2 fM_kindSays (by decide), h2 fM_kindLong (by decide)]
  exact h
/-- where objects are: no rings -/
def RWp (σ τ : ga_S) : Prop := (∀ o, 0 ≤ o → o < σ fW_objects 0 0 → τ fM_way 0 o = σ fW_placed 0 o ∧ (0 ≤ σ fW_placed 0 o ∧ σ fW_placed 0 o ≤ 5) ∧ ((σ fW_placed 0 o = 0 ∧ σ fW_placeAt 0 o = -1 ∧ τ fM_there 0 o = -1) ∨ (σ fW_placed 0 o ≠ 0 ∧ τ fM_there 0 o = σ fW_placeAt 0 o ∧ 0 ≤ σ fW_placeAt 0 o ∧ σ fW_placeAt 0 o < σ fW_objects 0 0))) ∧ ∃ R : Int → Nat, ∀ o, 0 ≤ o → o < σ fW_objects 0 0 → σ fW_placed 0 o ≠ 0 → R (σ fW_placeAt 0 o) < R o ∧ isB (σ fW_parents 0) (σ fW_kindOf 0 o) 0 = true
def rpC : List Nat := [fW_placed, fW_placeAt, fW_objects, fW_kindOf, fW_parents]
def rpM : List Nat := [fM_way, fM_there]
theorem RWp_f {σ τ σ' τ' : ga_S} (h : RWp σ τ) (h1 : ∀ F, F ∈ rpC → σ' F = σ F) (h2 : ∀ F, F ∈ rpM → τ' F = τ F) : RWp σ' τ' := by
  unfold RWp at h ⊢
  rw [h1 fW_placed (by decide), h1 fW_placeAt (by decide), h1 fW_objects (by decide), h1 fW_kindOf (by decide), h1 fW_parents (by decide), h2 fM_way (by decide), h2 fM_there (by decide)]
  exact h
/-- kinds of objects get narrower -/
theorem RWp_ko {σ τ σ' τ' : ga_S} {n : Int} (h : RWp σ τ) (fo : FO (σ fW_parents 0) n) (h1 : ∀ F, F ∈ [fW_placed, fW_placeAt, fW_objects, fW_parents] → σ' F = σ F) (h2 : ∀ F, F ∈ rpM → τ' F = τ F) (r : ∀ i, 0 ≤ i → i < σ fW_objects 0 0 → 0 ≤ σ' fW_kindOf 0 i ∧ σ' fW_kindOf 0 i < n) (N : ∀ i, 0 ≤ i → i < σ fW_objects 0 0 → σ' fW_kindOf 0 i = σ fW_kindOf 0 i ∨ isB (σ fW_parents 0) (σ' fW_kindOf 0 i) (σ fW_kindOf 0 i) = true) : RWp σ' τ' := by
  obtain ⟨q1, R, q2⟩ := h
  unfold RWp
  rw [h1 fW_placed (by decide), h1 fW_placeAt (by decide), h1 fW_objects (by decide), h1 fW_parents (by decide), h2 fM_way (by decide), h2 fM_there (by decide)]
  refine ⟨q1, R, fun o z0 z1 z2 => ?_⟩
  have w := q2 o z0 z1 z2
  refine ⟨w.1, ?_⟩
  have ro := r o z0 z1
  rcases N o z0 z1 with c | c
  · rw [c]; exact w.2
  · exact isB_tr fo (by omega) ro.2 c w.2
/-- there are more kinds -/
theorem RWp_pa {σ τ σ' τ' : ga_S} {n : Int} (h : RWp σ τ) (fo : FO (σ fW_parents 0) n) (h1 : ∀ F, F ∈ [fW_placed, fW_placeAt, fW_objects, fW_kindOf] → σ' F = σ F) (h2 : ∀ F, F ∈ rpM → τ' F = τ F) (p : ∀ k, 0 ≤ k → k < n → σ' fW_parents 0 k = σ fW_parents 0 k) (r : ∀ i, 0 ≤ i → i < σ fW_objects 0 0 → 0 ≤ σ fW_kindOf 0 i ∧ σ fW_kindOf 0 i < n) : RWp σ' τ' := by
  obtain ⟨q1, R, q2⟩ := h
  unfold RWp
  rw [h1 fW_placed (by decide), h1 fW_placeAt (by decide), h1 fW_objects (by decide), h1 fW_kindOf (by decide), h2 fM_way (by decide), h2 fM_there (by decide)]
  refine ⟨q1, R, fun o z0 z1 z2 => ?_⟩
  have w := q2 o z0 z1 z2
  refine ⟨w.1, ?_⟩
  have ro := r o z0 z1
  have b := w.2
  unfold isB at b ⊢
  rw [CH_congr fo p _ (by omega) ro.2]
  exact b
/-- the ways -/
def RWy (σ τ : ga_S) : Prop := (0 ≤ σ fW_toldWays 0 0 ∧ τ fM_ways 0 0 = σ fW_toldWays 0 0) ∧ (∀ k, 0 ≤ k → k < σ fW_toldWays 0 0 → (0 ≤ σ fW_wayFrom 0 k ∧ σ fW_wayFrom 0 k < σ fW_objects 0 0) ∧ (0 ≤ σ fW_wayBy 0 k ∧ σ fW_wayBy 0 k < 6) ∧ τ fM_wayFrom 0 k = σ fW_wayFrom 0 k ∧ τ fM_wayBy 0 k = σ fW_wayBy 0 k ∧ τ fM_wayTo 0 k = σ fW_ways (σ fW_wayFrom 0 k) (σ fW_wayBy 0 k) ∧ 0 ≤ σ fW_ways (σ fW_wayFrom 0 k) (σ fW_wayBy 0 k) ∧ σ fW_ways (σ fW_wayFrom 0 k) (σ fW_wayBy 0 k) < σ fW_objects 0 0 ∧ isB (σ fW_parents 0) (σ fW_kindOf 0 (σ fW_wayFrom 0 k)) 1 = true ∧ isB (σ fW_parents 0) (σ fW_kindOf 0 (σ fW_ways (σ fW_wayFrom 0 k) (σ fW_wayBy 0 k))) 1 = true) ∧ (∀ i j, 0 ≤ i → i < σ fW_toldWays 0 0 → 0 ≤ j → j < σ fW_toldWays 0 0 → σ fW_wayFrom 0 i = σ fW_wayFrom 0 j → σ fW_wayBy 0 i = σ fW_wayBy 0 j → i = j) ∧ (∀ o b, 0 ≤ o → o < σ fW_objects 0 0 → 0 ≤ b → b < 6 → σ fW_ways o b = -1 ∨ ∃ k, 0 ≤ k ∧ k < σ fW_toldWays 0 0 ∧ σ fW_wayFrom 0 k = o ∧ σ fW_wayBy 0 k = b)
def ryC : List Nat := [fW_ways, fW_toldWays, fW_wayFrom, fW_wayBy, fW_objects, fW_kindOf, fW_parents]
def ryM : List Nat := [fM_ways, fM_wayFrom, fM_wayBy, fM_wayTo]
theorem RWy_f {σ τ σ' τ' : ga_S} (h : RWy σ τ) (h1 : ∀ F, F ∈ ryC → σ' F = σ F) (h2 : ∀ F, F ∈ ryM → τ' F = τ F) : RWy σ' τ' := by
  unfold RWy at h ⊢
  rw [h1 fW_ways (by decide), h1 fW_toldWays (by decide), h1 fW_wayFrom (by decide), h1 fW_wayBy (by decide), h1 fW_objects (by decide), h1 fW_kindOf (by decide), h1 fW_parents (by decide), h2 fM_ways (by decide), h2 fM_wayFrom (by decide), h2 fM_wayBy (by decide), h2 fM_wayTo (by decide)]
  exact h
theorem RWy_ko {σ τ σ' τ' : ga_S} {n : Int} (h : RWy σ τ) (fo : FO (σ fW_parents 0) n) (h1 : ∀ F, F ∈ [fW_ways, fW_toldWays, fW_wayFrom, fW_wayBy, fW_objects, fW_parents] → σ' F = σ F) (h2 : ∀ F, F ∈ ryM → τ' F = τ F) (r : ∀ i, 0 ≤ i → i < σ fW_objects 0 0 → 0 ≤ σ' fW_kindOf 0 i ∧ σ' fW_kindOf 0 i < n) (N : ∀ i, 0 ≤ i → i < σ fW_objects 0 0 → σ' fW_kindOf 0 i = σ fW_kindOf 0 i ∨ isB (σ fW_parents 0) (σ' fW_kindOf 0 i) (σ fW_kindOf 0 i) = true) : RWy σ' τ' := by
  obtain ⟨q1, q2, q3, q4⟩ := h
  unfold RWy
  rw [h1 fW_ways (by decide), h1 fW_toldWays (by decide), h1 fW_wayFrom (by decide), h1 fW_wayBy (by decide), h1 fW_objects (by decide), h1 fW_parents (by decide), h2 fM_ways (by decide), h2 fM_wayFrom (by decide), h2 fM_wayBy (by decide), h2 fM_wayTo (by decide)]
  have go : ∀ i, 0 ≤ i → i < σ fW_objects 0 0 → isB (σ fW_parents 0) (σ fW_kindOf 0 i) 1 = true → isB (σ fW_parents 0) (σ' fW_kindOf 0 i) 1 = true := by
    intro i i0 i1 b
    have ro := r i i0 i1
    rcases N i i0 i1 with c | c
    · rw [c]; exact b
    · exact isB_tr fo (by omega) ro.2 c b
  refine ⟨q1, fun k z0 z1 => ?_, q3, q4⟩
  obtain ⟨w1, w2, w3, w4, w5, w6, w7, w8, w9⟩ := q2 k z0 z1
  exact ⟨w1, w2, w3, w4, w5, w6, w7, go _ w1.1 w1.2 w8, go _ w6 w7 w9⟩
theorem RWy_pa {σ τ σ' τ' : ga_S} {n : Int} (h : RWy σ τ) (fo : FO (σ fW_parents 0) n) (h1 : ∀ F, F ∈ [fW_ways, fW_toldWays, fW_wayFrom, fW_wayBy, fW_objects, fW_kindOf] → σ' F = σ F) (h2 : ∀ F, F ∈ ryM → τ' F = τ F) (p : ∀ k, 0 ≤ k → k < n → σ' fW_parents 0 k = σ fW_parents 0 k) (r : ∀ i, 0 ≤ i → i < σ fW_objects 0 0 → 0 ≤ σ fW_kindOf 0 i ∧ σ fW_kindOf 0 i < n) : RWy σ' τ' := by
  obtain ⟨q1, q2, q3, q4⟩ := h
  unfold RWy
  rw [h1 fW_ways (by decide), h1 fW_toldWays (by decide), h1 fW_wayFrom (by decide), h1 fW_wayBy (by decide), h1 fW_objects (by decide), h1 fW_kindOf (by decide), h2 fM_ways (by decide), h2 fM_wayFrom (by decide), h2 fM_wayBy (by decide), h2 fM_wayTo (by decide)]
  have go : ∀ i, 0 ≤ i → i < σ fW_objects 0 0 → isB (σ fW_parents 0) (σ fW_kindOf 0 i) 1 = true → isB (σ' fW_parents 0) (σ fW_kindOf 0 i) 1 = true := by
    intro i i0 i1 b
    have ro := r i i0 i1
    unfold isB at b ⊢
    rw [CH_congr fo p _ (by omega) ro.2]
    exact b
  refine ⟨q1, fun k z0 z1 => ?_, q3, q4⟩
  obtain ⟨w1, w2, w3, w4, w5, w6, w7, w8, w9⟩ := q2 k z0 z1
  exact ⟨w1, w2, w3, w4, w5, w6, w7, go _ w1.1 w1.2 w8, go _ w6 w7 w9⟩
/-- what is related -/
def RWe (σ τ : ga_S) : Prop := (∀ r, 0 ≤ r → r < σ fW_relations 0 0 → (σ fW_oneA 0 r = 0 ∨ σ fW_oneA 0 r = 1) ∧ (σ fW_oneB 0 r = 0 ∨ σ fW_oneB 0 r = 1) ∧ τ fM_firstOne 0 r = σ fW_oneA 0 r ∧ τ fM_secondOne 0 r = σ fW_oneB 0 r ∧ ∀ i, 0 ≤ i → i < 576 → (σ fW_related r i = 0 ∨ σ fW_related r i = 1) ∧ τ fM_related 0 (576 * r + i) = σ fW_related r i) ∧ (∀ i, 576 * σ fW_relations 0 0 ≤ i → i < 3456 → τ fM_related 0 i = 0)
def reC : List Nat := [fW_relations, fW_oneA, fW_oneB, fW_related]
def reM : List Nat := [fM_firstOne, fM_secondOne, fM_related]
theorem RWe_f {σ τ σ' τ' : ga_S} (h : RWe σ τ) (h1 : ∀ F, F ∈ reC → σ' F = σ F) (h2 : ∀ F, F ∈ reM → τ' F = τ F) : RWe σ' τ' := by
  unfold RWe at h ⊢
  rw [h1 fW_relations (by decide), h1 fW_oneA (by decide), h1 fW_oneB (by decide), h1 fW_related (by decide), h2 fM_firstOne (by decide), h2 fM_secondOne (by decide), h2 fM_related (by decide)]
  exact h
/-- all that is told of objects and kinds -/
def RW5 (σ τ : ga_S) : Prop := RWt σ τ ∧ RWh σ τ ∧ RWp σ τ ∧ RWy σ τ ∧ RWe σ τ
def r5C : List Nat := rtC ++ rhC ++ rpC ++ ryC ++ reC
def r5M : List Nat := rtM ++ rhM ++ rpM ++ ryM ++ reM
theorem r5_in : (∀ F, F ∈ rtC → F ∈ r5C) ∧ (∀ F, F ∈ rhC → F ∈ r5C) ∧ (∀ F, F ∈ rpC → F ∈ r5C) ∧ (∀ F, F ∈ ryC → F ∈ r5C) ∧ (∀ F, F ∈ reC → F ∈ r5C) ∧ (∀ F, F ∈ rtM → F ∈ r5M) ∧ (∀ F, F ∈ rhM → F ∈ r5M) ∧ (∀ F, F ∈ rpM → F ∈ r5M) ∧ (∀ F, F ∈ ryM → F ∈ r5M) ∧ (∀ F, F ∈ reM → F ∈ r5M) := by decide
theorem RW5_f {σ τ σ' τ' : ga_S} (h : RW5 σ τ) {L M : List Nat} (h1 : fr L σ σ') (hL : r5C.all (fun F => !(L.contains F)) = true) (h0 : σ' fT_size 0 = σ fT_size 0 ∧ σ' fT_bytes 0 = σ fT_bytes 0) (h2 : fr M τ τ') (hM : r5M.all (fun F => !(M.contains F)) = true) : RW5 σ' τ' := by
  obtain ⟨a, b, c, e, g⟩ := h
  obtain ⟨i1, i2, i3, i4, i5, j1, j2, j3, j4, j5⟩ := r5_in
  exact ⟨RWt_f a (fun F hF => fr_no h1 hL (i1 F hF)) (fun F hF => fr_no h2 hM (j1 F hF)), RWh_f b (fun F hF => fr_no h1 hL (i2 F hF)) h0 (fun F hF => fr_no h2 hM (j2 F hF)), RWp_f c (fun F hF => fr_no h1 hL (i3 F hF)) (fun F hF => fr_no h2 hM (j3 F hF)), RWy_f e (fun F hF => fr_no h1 hL (i4 F hF)) (fun F hF => fr_no h2 hM (j4 F hF)), RWe_f g (fun F hF => fr_no h1 hL (i5 F hF)) (fun F hF => fr_no h2 hM (j5 F hF))⟩

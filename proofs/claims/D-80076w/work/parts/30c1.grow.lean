/-! the world grows: what is there stays -/
def cntL : List Nat := [fW_kinds, fW_types, fW_objects, fW_adjectives, fW_values, fW_properties, fW_relations, fW_verbs, fW_actions]
def GC (σ σ1 : ga_S) : Prop := (∀ F, F ∈ cntL → σ F 0 0 ≤ σ1 F 0 0) ∧ (∀ k, 0 ≤ k → k < σ fW_kinds 0 0 → σ1 fW_parents 0 k = σ fW_parents 0 k) ∧ (∀ o, 0 ≤ o → o < σ fW_objects 0 0 → σ1 fW_kindOf 0 o = σ fW_kindOf 0 o ∨ isB (σ1 fW_parents 0) (σ1 fW_kindOf 0 o) (σ fW_kindOf 0 o) = true) ∧ (∀ a, 0 ≤ a → a < σ fW_adjectives 0 0 → σ1 fW_adjectiveKinds 0 a = σ fW_adjectiveKinds 0 a ∧ σ1 fW_contraries 0 a = σ fW_contraries 0 a) ∧ (∀ v, 0 ≤ v → v < σ fW_values 0 0 → σ1 fW_valueTypes 0 v = σ fW_valueTypes 0 v) ∧ (∀ p, 0 ≤ p → p < σ fW_properties 0 0 → σ1 fW_propertyTypes 0 p = σ fW_propertyTypes 0 p ∧ ∀ k, 0 ≤ k → k < 16 → bitI (σ fW_propertyKinds 0 p) k = true → bitI (σ1 fW_propertyKinds 0 p) k = true) ∧ (∀ a, 0 ≤ a → a < σ fW_actions 0 0 → σ1 fW_actionKinds 0 a = σ fW_actionKinds 0 a) ∧ σ1 fT_size 0 = σ fT_size 0 ∧ σ1 fT_bytes 0 = σ fT_bytes 0
/-- what names mean, plurals left out -/
def GD (σ σ1 : ga_S) : Prop := ∀ nm s, s ≠ 11 → dN σ nm s ≠ -1 → dN σ1 nm s = dN σ nm s
def DX (σ σ1 : ga_S) : Prop := ∀ k, live σ k → σ fD_sorts 0 k ≠ 11 → live σ1 k ∧ ent σ1 k = ent σ k ∧ σ1 fD_sorts 0 k = σ fD_sorts 0 k ∧ σ1 fD_numbers 0 k = σ fD_numbers 0 k
def gwF : List Nat := [fW_parents, fW_kindOf, fW_adjectiveKinds, fW_contraries, fW_valueTypes, fW_propertyTypes, fW_propertyKinds, fW_actionKinds, fT_size, fT_bytes]
theorem DX_r (σ : ga_S) : DX σ σ := fun _ l _ => ⟨l, rfl, rfl, rfl⟩
theorem DX_f {σ σ1 σ2 : ga_S} (h : DX σ σ1) (g : ∀ F, F ∈ dicL → σ2 F = σ1 F) : DX σ σ2 := by
  intro k l e
  obtain ⟨a, b, c, d⟩ := h k l e
  refine ⟨?_, ?_, ?_, ?_⟩
  · unfold live at a ⊢
    rw [g fD_count (by decide), g fD_sorts (by decide)]; exact a
  · unfold ent at b ⊢
    rw [g fD_sizes (by decide), g fD_letters (by decide), g fD_froms (by decide)]; exact b
  · rw [g fD_sorts (by decide)]; exact c
  · rw [g fD_numbers (by decide)]; exact d
theorem DX_tell {σ σ1 σ2 : ga_S} {L : List Int} {s n : Int} (h : DX σ σ1) (D : DT σ1 σ2 L s n) : DX σ σ2 := by
  intro k l e
  obtain ⟨a, b, c, d⟩ := h k l e
  have x := D.2.2.2.2.1 k a.1 a.2.1
  have y := D.2.2.1
  have z := a.2.1
  exact ⟨⟨a.1, by omega, by rw [x.2.1]; exact a.2.2⟩, by rw [x.1]; exact b, by rw [x.2.1]; exact c, by rw [x.2.2.1]; exact d⟩
theorem DX_GD {σ σ1 τ1 : ga_S} (h : DX σ σ1) (R : RD σ1 τ1) : GD σ σ1 := by
  intro nm s hs hn
  unfold dN at hn ⊢
  by_cases c : fnd σ nm 0 = -1 ∨ ¬ σ fD_sorts 0 (fnd σ nm 0) = s
  · rw [if_pos c] at hn; exact absurd rfl hn
  · have c1 : fnd σ nm 0 ≠ -1 := fun z => c (Or.inl z)
    have c2 : σ fD_sorts 0 (fnd σ nm 0) = s := Classical.byContradiction fun z => c (Or.inr z)
    have f := (fnd_r (σ := σ) (nm := nm) (Int.le_refl 0)).resolve_left c1
    have x := h _ ⟨f.1, f.2.1, f.2.2.1⟩ (by rw [c2]; exact hs)
    have e := RD_fnd R x.1
    rw [x.2.1, f.2.2.2] at e
    rw [e, if_neg (by rw [x.2.2.1]; exact c), if_neg c, x.2.2.2]
theorem GC_r (σ : ga_S) : GC σ σ := ⟨fun _ _ => Int.le_refl _, fun _ _ _ => rfl, fun _ _ _ => Or.inl rfl, fun _ _ _ => ⟨rfl, rfl⟩, fun _ _ _ => rfl, fun _ _ _ => ⟨rfl, fun _ _ _ z => z⟩, fun _ _ _ => rfl, rfl, rfl⟩
theorem GC_f {σ σ1 σ2 : ga_S} (h : GC σ σ1) {L : List Nat} (g : fr L σ1 σ2) (hL : (gwF ++ cntL).all (fun F => !(L.contains F)) = true) : GC σ σ2 := by
  obtain ⟨a1, a2, a3, a4, a5, a6, a7, a8, a9⟩ := h
  have c : ∀ F, F ∈ cntL → σ2 F = σ1 F := fun F hF => fr_no g hL (List.mem_append_right _ hF)
  have w : ∀ F, F ∈ gwF → σ2 F = σ1 F := fun F hF => fr_no g hL (List.mem_append_left _ hF)
  exact ⟨fun F hF => by rw [c F hF]; exact a1 F hF, fun k z0 z1 => by rw [w fW_parents (by decide)]; exact a2 k z0 z1, fun o z0 z1 => by rw [w fW_parents (by decide), w fW_kindOf (by decide)]; exact a3 o z0 z1, fun a z0 z1 => by rw [w fW_adjectiveKinds (by decide), w fW_contraries (by decide)]; exact a4 a z0 z1, fun v z0 z1 => by rw [w fW_valueTypes (by decide)]; exact a5 v z0 z1, fun p z0 z1 => by rw [w fW_propertyTypes (by decide), w fW_propertyKinds (by decide)]; exact a6 p z0 z1, fun a z0 z1 => by rw [w fW_actionKinds (by decide)]; exact a7 a z0 z1, by rw [w fT_size (by decide)]; exact a8, by rw [w fT_bytes (by decide)]; exact a9⟩
theorem cnt_1 {σ σ1 : ga_S} {L : List Nat} (h : fr L σ σ1) (C : Nat) (hL : cntL.all (fun F => decide (F = C) || !(L.contains F)) = true) (hc : σ C 0 0 ≤ σ1 C 0 0) : ∀ F, F ∈ cntL → σ F 0 0 ≤ σ1 F 0 0 := by
  intro F hF
  have t := List.all_eq_true.mp hL F hF
  by_cases z : F = C
  · rw [z]; exact hc
  · have n : F ∉ L := by
      intro m
      have : L.contains F = true := List.contains_iff_mem.mpr m
      rw [this, decide_eq_false z] at t
      cases t
    rw [h F n]; exact Int.le_refl _
theorem GC_g {σ σ1 : ga_S} {L : List Nat} (h : fr L σ σ1) (hT : fT_size ∉ L ∧ fT_bytes ∉ L) (hc : ∀ F, F ∈ cntL → σ F 0 0 ≤ σ1 F 0 0) (hp : fW_parents ∉ L ∨ ∀ k, 0 ≤ k → k < σ fW_kinds 0 0 → σ1 fW_parents 0 k = σ fW_parents 0 k) (ho : fW_kindOf ∉ L) (ha : (fW_adjectiveKinds ∉ L ∧ fW_contraries ∉ L) ∨ ∀ a, 0 ≤ a → a < σ fW_adjectives 0 0 → σ1 fW_adjectiveKinds 0 a = σ fW_adjectiveKinds 0 a ∧ σ1 fW_contraries 0 a = σ fW_contraries 0 a) (hv : fW_valueTypes ∉ L ∨ ∀ v, 0 ≤ v → v < σ fW_values 0 0 → σ1 fW_valueTypes 0 v = σ fW_valueTypes 0 v) (hq : (fW_propertyTypes ∉ L ∧ fW_propertyKinds ∉ L) ∨ ∀ p, 0 ≤ p → p < σ fW_properties 0 0 → σ1 fW_propertyTypes 0 p = σ fW_propertyTypes 0 p ∧ ∀ k, 0 ≤ k → k < 16 → bitI (σ fW_propertyKinds 0 p) k = true → bitI (σ1 fW_propertyKinds 0 p) k = true) (hx : fW_actionKinds ∉ L ∨ ∀ a, 0 ≤ a → a < σ fW_actions 0 0 → σ1 fW_actionKinds 0 a = σ fW_actionKinds 0 a) : GC σ σ1 := by
  refine ⟨hc, ?_, fun o _ _ => Or.inl (by rw [h _ ho]), ?_, ?_, ?_, ?_, by rw [h _ hT.1], by rw [h _ hT.2]⟩
  · rcases hp with z | z
    · intro k _ _; rw [h _ z]
    · exact z
  · rcases ha with z | z
    · intro a _ _; rw [h _ z.1, h _ z.2]; exact ⟨rfl, rfl⟩
    · exact z
  · rcases hv with z | z
    · intro v _ _; rw [h _ z]
    · exact z
  · rcases hq with z | z
    · intro p _ _; rw [h _ z.1, h _ z.2]; exact ⟨rfl, fun _ _ _ y => y⟩
    · exact z
  · rcases hx with z | z
    · intro a _ _; rw [h _ z]
    · exact z
/-- one object more -/
theorem GC_o {σ σ1 σ2 : ga_S} (h : GC σ σ1) {L : List Nat} (g : fr L σ1 σ2) (hL : (gwF ++ cntL).all (fun F => decide (F = fW_kindOf) || decide (F = fW_objects) || !(L.contains F)) = true) (hn : σ1 fW_objects 0 0 ≤ σ2 fW_objects 0 0) (hk : ∀ o, 0 ≤ o → o < σ1 fW_objects 0 0 → σ2 fW_kindOf 0 o = σ1 fW_kindOf 0 o) : GC σ σ2 := by
  obtain ⟨a1, a2, a3, a4, a5, a6, a7, a8, a9⟩ := h
  have k : ∀ F, F ∈ gwF ++ cntL → F ≠ fW_kindOf → F ≠ fW_objects → σ2 F = σ1 F := by
    intro F hF z1 z2
    have t := List.all_eq_true.mp hL F hF
    refine g F (fun m => ?_)
    have : L.contains F = true := List.contains_iff_mem.mpr m
    rw [this, decide_eq_false z1, decide_eq_false z2] at t
    cases t
  have w : ∀ F, F ∈ gwF → F ≠ fW_kindOf → F ≠ fW_objects → σ2 F = σ1 F := fun F hF => k F (List.mem_append_left _ hF)
  refine ⟨fun F hF => ?_, fun k z0 z1 => by rw [w fW_parents (by decide) (by decide) (by decide)]; exact a2 k z0 z1, fun o z0 z1 => ?_, fun a z0 z1 => by rw [w fW_adjectiveKinds (by decide) (by decide) (by decide), w fW_contraries (by decide) (by decide) (by decide)]; exact a4 a z0 z1, fun v z0 z1 => by rw [w fW_valueTypes (by decide) (by decide) (by decide)]; exact a5 v z0 z1, fun p z0 z1 => by rw [w fW_propertyTypes (by decide) (by decide) (by decide), w fW_propertyKinds (by decide) (by decide) (by decide)]; exact a6 p z0 z1, fun a z0 z1 => by rw [w fW_actionKinds (by decide) (by decide) (by decide)]; exact a7 a z0 z1, by rw [w fT_size (by decide) (by decide) (by decide)]; exact a8, by rw [w fT_bytes (by decide) (by decide) (by decide)]; exact a9⟩
  · by_cases z : F = fW_objects
    · rw [z]; exact Int.le_trans (a1 fW_objects (by decide)) hn
    · rw [k F (List.mem_append_right _ hF) (fun e => absurd hF (by rw [e]; decide)) z]; exact a1 F hF
  · have b := a1 fW_objects (by decide)
    rw [w fW_parents (by decide) (by decide) (by decide), hk o z0 (by omega)]
    exact a3 o z0 z1
theorem CH_tr {P : Int → Int} {n : Int} (hF : FO P n) : ∀ k, -1 ≤ k → k < n → ∀ x, x ∈ CH P k → ∀ y, y ∈ CH P x → y ∈ CH P k := by
  refine FO_ind hF ?_ ?_
  · intro x hx; rw [CH_neg P (by omega)] at hx; cases hx
  · intro k h0 h1 ih x hx y hy
    rw [CH_s hF h0 h1] at hx
    rcases List.mem_cons.mp hx with z | z
    · rw [z] at hy; exact hy
    · rw [CH_s hF h0 h1]
      exact List.mem_cons_of_mem _ (ih x z y hy)
theorem CH_self {P : Int → Int} {n : Int} (hF : FO P n) {k : Int} (h0 : 0 ≤ k) (h1 : k < n) : k ∈ CH P k := by
  rw [CH_s hF h0 h1]; exact List.mem_cons_self ..
theorem isB_tr {P : Int → Int} {n : Int} (hF : FO P n) {a b c : Int} (h0 : -1 ≤ a) (h1 : a < n) (h : isB P a b = true) (h' : isB P b c = true) : isB P a c = true := decide_eq_true (CH_tr hF a h0 h1 b (of_decide_eq_true h) c (of_decide_eq_true h'))
theorem isB_rf {P : Int → Int} {n : Int} (hF : FO P n) {k : Int} (h0 : 0 ≤ k) (h1 : k < n) : isB P k k = true := decide_eq_true (CH_self hF h0 h1)
/-- objects may come to be of narrower kinds -/
theorem GC_k {σ σ1 σ2 : ga_S} (h : GC σ σ1) (W : FO (σ1 fW_parents 0) (σ1 fW_kinds 0 0)) (g : fr [fW_kindOf] σ1 σ2) (hk : ∀ o, 0 ≤ o → o < σ1 fW_objects 0 0 → σ2 fW_kindOf 0 o = σ1 fW_kindOf 0 o ∨ ((-1 ≤ σ2 fW_kindOf 0 o ∧ σ2 fW_kindOf 0 o < σ1 fW_kinds 0 0) ∧ isB (σ1 fW_parents 0) (σ2 fW_kindOf 0 o) (σ1 fW_kindOf 0 o) = true)) : GC σ σ2 := by
  obtain ⟨a1, a2, a3, a4, a5, a6, a7, a8, a9⟩ := h
  refine ⟨fun F hF => by rw [g F (by revert hF; revert F; decide)]; exact a1 F hF, fun k z0 z1 => by rw [g fW_parents (by decide)]; exact a2 k z0 z1, fun o z0 z1 => ?_, fun a z0 z1 => by rw [g fW_adjectiveKinds (by decide), g fW_contraries (by decide)]; exact a4 a z0 z1, fun v z0 z1 => by rw [g fW_valueTypes (by decide)]; exact a5 v z0 z1, fun p z0 z1 => by rw [g fW_propertyTypes (by decide), g fW_propertyKinds (by decide)]; exact a6 p z0 z1, fun a z0 z1 => by rw [g fW_actionKinds (by decide)]; exact a7 a z0 z1, by rw [g fT_size (by decide)]; exact a8, by rw [g fT_bytes (by decide)]; exact a9⟩
  have b := a1 fW_objects (by decide)
  rw [g fW_parents (by decide)]
  rcases hk o z0 (by omega) with x | x
  · rw [x]; exact a3 o z0 z1
  · rcases a3 o z0 z1 with y | y
    · rw [y] at x; exact Or.inr x.2
    · exact Or.inr (isB_tr W x.1.1 x.1.2 x.2 y)
/-- a number of a sort is told, by words of twelve letters at most -/
def tld (ρ : ga_S) (s n : Int) : Prop := ∃ k, live ρ k ∧ ρ fD_sorts 0 k = s ∧ ρ fD_numbers 0 k = n ∧ ∃ W : List (List Int), wsW W ∧ ent ρ k = jn W
/-- objects and values that are new are told -/
def NW (σ ρ : ga_S) : Prop := (∀ o, σ fW_objects 0 0 ≤ o → o < ρ fW_objects 0 0 → tld ρ 2 o) ∧ ∀ v, σ fW_values 0 0 ≤ v → v < ρ fW_values 0 0 → tld ρ 4 v
def nwF : List Nat := fW_objects :: fW_values :: dicL
theorem tld_f {ρ ρ' : ga_S} {s n : Int} (h : tld ρ s n) (e : ∀ F, F ∈ dicL → ρ' F = ρ F) : tld ρ' s n := by
  unfold tld live ent at h ⊢
  rw [e fD_count (by decide), e fD_sorts (by decide), e fD_numbers (by decide), e fD_sizes (by decide), e fD_letters (by decide), e fD_froms (by decide)]
  exact h
theorem tld_X {ρ ρ' : ga_S} {s n : Int} (h : tld ρ s n) (hs : s ≠ 11) (D : DX ρ ρ') : tld ρ' s n := by
  obtain ⟨k, l, e1, e2, W, e3, e4⟩ := h
  have x := D k l (by rw [e1]; exact hs)
  exact ⟨k, x.1, by rw [x.2.2.1]; exact e1, by rw [x.2.2.2]; exact e2, W, e3, by rw [x.2.1]; exact e4⟩
theorem tld_T {ρ ρ' : ga_S} {L : List Int} {s n : Int} (W : wfD ρ) (hs : s ≠ -1) (D : DT ρ ρ' L s n) {V : List (List Int)} (hV : wsW V) (hL : L = jn V) : tld ρ' s n := by
  obtain ⟨_, _, d1, _, _, d5, d2, d3, _⟩ := D
  have w := W.1
  exact ⟨ρ fD_count 0 0, ⟨w, by omega, by rw [d2]; exact hs⟩, d2, d3, V, hV, by rw [d5, hL]⟩
theorem NW_f {σ ρ ρ' : ga_S} (h : NW σ ρ) (e : ∀ F, F ∈ nwF → ρ' F = ρ F) : NW σ ρ' := by
  have e1 : ∀ F, F ∈ dicL → ρ' F = ρ F := fun F hF => e F (List.mem_cons_of_mem _ (List.mem_cons_of_mem _ hF))
  refine ⟨fun o z0 z1 => tld_f (h.1 o z0 ?_) e1, fun v z0 z1 => tld_f (h.2 v z0 ?_) e1⟩
  · rw [e fW_objects (by decide)] at z1; exact z1
  · rw [e fW_values (by decide)] at z1; exact z1
theorem NW_e {σ ρ : ga_S} (e1 : ρ fW_objects = σ fW_objects) (e2 : ρ fW_values = σ fW_values) : NW σ ρ := by
  refine ⟨fun o z0 z1 => ?_, fun v z0 z1 => ?_⟩
  · rw [e1] at z1; omega
  · rw [e2] at z1; omega
/-- every object and value is told -/
def NM (σ : ga_S) : Prop := (∀ o, 0 ≤ o → o < σ fW_objects 0 0 → tld σ 2 o) ∧ ∀ v, 0 ≤ v → v < σ fW_values 0 0 → tld σ 4 v
theorem NM_G {σ ρ : ga_S} (h : NM σ) (D : DX σ ρ) (n : NW σ ρ) : NM ρ := by
  refine ⟨fun o z0 z1 => ?_, fun v z0 z1 => ?_⟩
  · by_cases c : o < σ fW_objects 0 0
    · exact tld_X (h.1 o z0 c) (by decide) D
    · exact n.1 o (by omega) z1
  · by_cases c : v < σ fW_values 0 0
    · exact tld_X (h.2 v z0 c) (by decide) D
    · exact n.2 v (by omega) z1
theorem NM_f {σ ρ : ga_S} (h : NM σ) (e : ∀ F, F ∈ nwF → ρ F = σ F) : NM ρ := by
  have e1 : ∀ F, F ∈ dicL → ρ F = σ F := fun F hF => e F (List.mem_cons_of_mem _ (List.mem_cons_of_mem _ hF))
  refine ⟨fun o z0 z1 => tld_f (h.1 o z0 ?_) e1, fun v z0 z1 => tld_f (h.2 v z0 ?_) e1⟩
  · rw [e fW_objects (by decide)] at z1; exact z1
  · rw [e fW_values (by decide)] at z1; exact z1

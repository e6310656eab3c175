/-! new values of a type -/
def cnT (h : Int → Int) (L : List Int) (t : Int) : Int := ((L.filter (fun v => decide (h v = t))).length : Int)
theorem cnT_c (h : Int → Int) (x : Int) (L : List Int) (t : Int) : cnT h (x :: L) t = cnT h L t + (if h x = t then 1 else 0) := by
  unfold cnT
  rw [List.filter_cons]
  by_cases c : h x = t
  · rw [if_pos c, if_pos (decide_eq_true c), List.length_cons]; omega
  · rw [if_neg c, if_neg (by simp [c])]; omega
theorem cnt6 (h : Int → Int) : ∀ L : List Int, (∀ x, x ∈ L → 2 ≤ h x ∧ h x < 8) → (L.length : Int) = cnT h L 2 + cnT h L 3 + cnT h L 4 + cnT h L 5 + cnT h L 6 + cnT h L 7 := by
  intro L
  induction L with
  | nil => intro _; rfl
  | cons x L ih =>
    intro hh
    have a := hh x (List.mem_cons_self ..)
    have b := ih (fun y hy => hh y (List.mem_cons_of_mem _ hy))
    rw [cnT_c, cnT_c, cnT_c, cnT_c, cnT_c, cnT_c, List.length_cons]
    have z : h x = 2 ∨ h x = 3 ∨ h x = 4 ∨ h x = 5 ∨ h x = 6 ∨ h x = 7 := by omega
    rcases z with z | z | z | z | z | z <;> rw [z] <;> simp <;> omega
theorem cnT_0 (h : Int → Int) (t : Int) : ∀ L : List Int, (∀ x, x ∈ L → h x ≠ t) → cnT h L t = 0 := by
  intro L
  induction L with
  | nil => intro _; rfl
  | cons x L ih =>
    intro hh
    rw [cnT_c, if_neg (hh x (List.mem_cons_self ..)), ih (fun y hy => hh y (List.mem_cons_of_mem _ hy))]
    rfl
/-- no type has more than eight values -/
def tv8 (σ : ga_S) : Prop := ∀ t, 0 ≤ t → t < σ fW_types 0 0 → σ fW_typeValues 0 t ≤ 8
theorem vals_lt {σ τ : ga_S} (Wt : WKt σ τ) (Wv : WKv σ τ) (h8 : tv8 σ) : σ fW_values 0 0 ≤ 48 := by
  have v0 := Wv.1
  have t8 := Wt.2.1
  have r := cnt6 (fun v => σ fW_valueTypes 0 v) (rg 0 (σ fW_values 0 0)) (fun x hx => by
    have m := (rg_mem 0).mp hx
    have := Wv.2.2.2 x m.1 m.2
    show 2 ≤ σ fW_valueTypes 0 x ∧ σ fW_valueTypes 0 x < 8
    omega)
  have l := rg_len (n := σ fW_values 0 0) 0
  rw [if_pos v0] at l
  have b : ∀ t, 2 ≤ t → cnT (fun v => σ fW_valueTypes 0 v) (rg 0 (σ fW_values 0 0)) t ≤ 8 := by
    intro t ht
    by_cases c : t < σ fW_types 0 0
    · have a := Wt.2.2.2 t (by omega) c
      have e := h8 t (by omega) c
      have : cnT (fun v => σ fW_valueTypes 0 v) (rg 0 (σ fW_values 0 0)) t = cntV σ t := rfl
      omega
    · rw [cnT_0 _ t _ (fun x hx => by
        have m := (rg_mem 0).mp hx
        have := Wv.2.2.2 x m.1 m.2
        show σ fW_valueTypes 0 x ≠ t
        omega)]
      decide
  have b2 := b 2 (by omega)
  have b3 := b 3 (by omega)
  have b4 := b 4 (by omega)
  have b5 := b 5 (by omega)
  have b6 := b 6 (by omega)
  have b7 := b 7 (by omega)
  omega
/-- one more value -/
theorem cntV_more {σ σ' : ga_S} {v T : Int} (ev : v = σ fW_values 0 0) (v0 : 0 ≤ v) (h1 : σ' fW_values 0 0 = v + 1) (h2 : ∀ i, σ' fW_valueTypes 0 i = if i = v then T else σ fW_valueTypes 0 i) (t : Int) : cntV σ' t = cntV σ t + (if T = t then 1 else 0) := by
  unfold cntV
  rw [h1, ← ev, rg_snoc 0 v0, List.filter_append, List.length_append]
  have a : (rg 0 v).filter (fun i => decide (σ' fW_valueTypes 0 i = t)) = (rg 0 v).filter (fun i => decide (σ fW_valueTypes 0 i = t)) := by
    apply List.filter_congr
    intro i hi
    have m := (rg_mem 0).mp hi
    rw [h2, if_neg (by omega)]
  rw [a]
  have b : (([v].filter (fun i => decide (σ' fW_valueTypes 0 i = t))).length : Int) = if T = t then 1 else 0 := by
    have e : σ' fW_valueTypes 0 v = T := by rw [h2, if_pos rfl]
    by_cases c : T = t
    · rw [if_pos c]; simp [e, c]
    · rw [if_neg c]; simp [e, c]
  omega
/-- more values leave what is told -/
theorem RWh_vals {σ τ σ' τ' : ga_S} (h : RWh σ τ) {L M : List Nat} (h1 : fr L σ σ') (hL : [fW_has, fW_numbers, fW_lengths, fW_properties, fW_propertyTypes, fW_objects, fW_kinds].all (fun F => !(L.contains F)) = true) (h0 : σ' fT_size 0 = σ fT_size 0 ∧ σ' fT_bytes 0 = σ fT_bytes 0) (h2 : fr M τ τ') (hM : rhM.all (fun F => !(M.contains F)) = true) (hv : σ fW_values 0 0 ≤ σ' fW_values 0 0) (ht : ∀ i, 0 ≤ i → i < σ fW_values 0 0 → σ' fW_valueTypes 0 i = σ fW_valueTypes 0 i) : RWh σ' τ' := by
  have g := fr_mem h1 hL
  have k := fr_mem h2 hM
  have vo : ∀ p v n, vlO σ p v n → vlO σ' p v n := by
    intro p v n w
    unfold vlO at w ⊢
    rw [g fW_propertyTypes (by decide), h0.1, h0.2]
    refine ⟨w.1, w.2.1, fun z => ?_⟩
    have := w.2.2 z
    exact ⟨this.1, by omega, by rw [ht v this.1 this.2.1]; exact this.2.2⟩
  have row : ∀ Ft Fs Fl base r, Ft ∈ rhM → Fs ∈ rhM → Fl ∈ rhM → rowH σ τ Ft Fs Fl base r → rowH σ' τ' Ft Fs Fl base r := by
    intro Ft Fs Fl base r i1 i2 i3 w p p0 p1
    have x := w p p0 p1
    rw [g fW_has (by decide), g fW_properties (by decide), g fW_numbers (by decide), g fW_lengths (by decide), g fW_propertyTypes (by decide), k Ft i1, k Fs i2, k Fl i3]
    refine ⟨x.1, x.2.1, fun z => ?_⟩
    have y := x.2.2 z
    unfold sTx at y ⊢
    rw [h0.1, h0.2]
    exact ⟨y.1, y.2.1, y.2.2.1, vo _ _ _ y.2.2.2⟩
  obtain ⟨a, b, c⟩ := h
  refine ⟨fun o o0 o1 => ?_, fun j j0 j1 => ?_, fun r p z p0 p1 => ?_⟩
  · rw [g fW_objects (by decide)] at o1
    exact row _ _ _ _ _ (by decide) (by decide) (by decide) (a o o0 o1)
  · rw [g fW_kinds (by decide)] at j1
    exact row _ _ _ _ _ (by decide) (by decide) (by decide) (b j j0 j1)
  · rw [g fW_objects (by decide), g fW_kinds (by decide)] at z
    rw [g fW_has (by decide)]
    exact c r p z p0 p1

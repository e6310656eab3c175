/-! rules stay as good as they were while the world grows -/
def blw (σ1 : ga_S) (x y : Int) : Prop := x = y ∨ isB (σ1 fW_parents 0) x y = true
def nG (σ0 σ1 : ga_S) (nk nk' : Int) : Prop := (nk = -1 ∧ nk' = -1) ∨ ((0 ≤ nk ∧ nk < σ0 fW_kinds 0 0) ∧ (0 ≤ nk' ∧ nk' < σ1 fW_kinds 0 0) ∧ blw σ1 nk' nk)
def kdR (σ : ga_S) : Prop := FO (σ fW_parents 0) (σ fW_kinds 0 0) ∧ (∀ o, 0 ≤ o → o < σ fW_objects 0 0 → 0 ≤ σ fW_kindOf 0 o ∧ σ fW_kindOf 0 o < σ fW_kinds 0 0)
def GZ (σ0 σ1 : ga_S) : Prop := GC σ0 σ1 ∧ kdR σ0 ∧ kdR σ1
theorem kdR_W {σ τ : ga_S} (W : WK σ τ) : kdR σ := ⟨W.1.1, fun o h0 h1 => ⟨(W.2.1.2.2.2 o h0 h1).1, (W.2.1.2.2.2 o h0 h1).2.1⟩⟩
section
variable {σ0 σ1 : ga_S}
theorem CH_g (Z : GZ σ0 σ1) {k : Int} (h0 : -1 ≤ k) (h1 : k < σ0 fW_kinds 0 0) : CH (σ1 fW_parents 0) k = CH (σ0 fW_parents 0) k := CH_congr Z.2.1.1 Z.1.2.1 k h0 h1
theorem isB_g (Z : GZ σ0 σ1) {k k' a : Int} (hk : 0 ≤ k ∧ k < σ0 fW_kinds 0 0) (hk' : 0 ≤ k' ∧ k' < σ1 fW_kinds 0 0) (b : blw σ1 k' k) (h : isB (σ0 fW_parents 0) k a = true) : isB (σ1 fW_parents 0) k' a = true := by
  have h1 : isB (σ1 fW_parents 0) k a = true := by
    unfold isB at h ⊢
    rw [CH_g Z (by omega) hk.2]; exact h
  rcases b with e | e
  · rw [e]; exact h1
  · exact isB_tr Z.2.2.1 (by omega) hk'.2 e h1
theorem own_g (Z : GZ σ0 σ1) {k k' p : Int} (hk : 0 ≤ k ∧ k < σ0 fW_kinds 0 0) (hk' : 0 ≤ k' ∧ k' < σ1 fW_kinds 0 0) (b : blw σ1 k' k) (hp : 0 ≤ p ∧ p < σ0 fW_properties 0 0) (h : own σ0 k p = true) : own σ1 k' p = true := by
  unfold own at h ⊢
  rw [List.any_eq_true] at h ⊢
  obtain ⟨x, x1, x2⟩ := h
  have m := CH_mem Z.2.1.1 k (by omega) hk.2 x x1
  have k16 := Z.2.1.1.1
  exact ⟨x, of_decide_eq_true (isB_g Z hk hk' b (a := x) (decide_eq_true x1)), (Z.1.2.2.2.2.2.1 p hp.1 hp.2).2 x (by omega) (by omega) x2⟩
theorem fitA_g (Z : GZ σ0 σ1) {k k' a : Int} {df : Bool} (hk : 0 ≤ k ∧ k < σ0 fW_kinds 0 0) (hk' : 0 ≤ k' ∧ k' < σ1 fW_kinds 0 0) (b : blw σ1 k' k) (ha : 0 ≤ a ∧ a < σ0 fW_adjectives 0 0) (h : fitA σ0 k a df = true) : fitA σ1 k' a df = true := by
  have g := Z.1.2.2.2.1 a ha.1 ha.2
  unfold fitA at h ⊢
  rw [Bool.and_eq_true] at h ⊢
  rw [g.1, g.2]
  exact ⟨isB_g Z hk hk' b h.1, h.2⟩
theorem kdT_g (Z : GZ σ0 σ1) {ik nk nk' v : Int} (hi : kO σ0 ik) (N : nG σ0 σ1 nk nk') (h : thO σ0 ik nk v) : (0 ≤ kdT σ0 ik nk v ∧ kdT σ0 ik nk v < σ0 fW_kinds 0 0) ∧ (0 ≤ kdT σ1 ik nk' v ∧ kdT σ1 ik nk' v < σ1 fW_kinds 0 0) ∧ blw σ1 (kdT σ1 ik nk' v) (kdT σ0 ik nk v) ∧ thO σ1 ik nk' v := by
  have ck := Z.1.1 fW_kinds (by decide)
  have co := Z.1.1 fW_objects (by decide)
  rcases h with ⟨e, n⟩ | ⟨e, n⟩ | h
  · have r := hi.resolve_left n
    unfold kdT
    rw [if_pos e, if_pos e]
    exact ⟨r, ⟨r.1, by omega⟩, Or.inl rfl, Or.inl ⟨e, n⟩⟩
  · have r := N.resolve_left (fun z => n z.1)
    unfold kdT
    rw [if_neg (by omega), if_pos e, if_neg (by omega), if_pos e]
    exact ⟨r.1, r.2.1, r.2.2, Or.inr (Or.inl ⟨e, by omega⟩)⟩
  · unfold kdT
    rw [if_neg (by omega), if_neg (by omega), if_neg (by omega), if_neg (by omega)]
    exact ⟨Z.2.1.2 v h.1 h.2, Z.2.2.2 v h.1 (by omega), Z.1.2.2.1 v h.1 h.2, Or.inr (Or.inr ⟨h.1, by omega⟩)⟩
theorem stT_g (Z : GZ σ0 σ1) {ik nk nk' : Int} {now : Bool} {σ τ : ga_S} {s q : Int} (hi : kO σ0 ik) (N : nG σ0 σ1 nk nk') (h : stT σ0 ik nk now σ τ s q) : stT σ1 ik nk' now σ τ s q := by
  obtain ⟨h1, h2, h3, h4⟩ := h
  obtain ⟨T1, T2, T3, T4⟩ := kdT_g Z hi N h3
  have cr := Z.1.1 fW_relations (by decide)
  have ca := Z.1.1 fW_adjectives (by decide)
  have cp := Z.1.1 fW_properties (by decide)
  have cv := Z.1.1 fW_values (by decide)
  refine ⟨h1, h2, T4, ?_⟩
  rcases h4 with h | h | h | h | h | h
  · obtain ⟨a1, a2, a3, a4, a5, a6, a7, a8⟩ := h
    exact Or.inl ⟨a1, a2, a3, a4, (kdT_g Z hi N a5).2.2.2, a6, a7, by omega⟩
  · obtain ⟨a1, a2, a3, a4, a5⟩ := h
    exact Or.inr (Or.inl ⟨a1, a2, a3, a4, (kdT_g Z hi N a5).2.2.2⟩)
  · obtain ⟨a1, a2, a3, a4, a5, a6⟩ := h
    exact Or.inr (Or.inr (Or.inl ⟨a1, a2, a3, a4, by omega, fitA_g Z T1 T2 T3 ⟨a4, a5⟩ a6⟩))
  · obtain ⟨a1, a2, a3, a4, a5, a6, a7, a8⟩ := h
    exact Or.inr (Or.inr (Or.inr (Or.inl ⟨a1, a2, a3, a4, ⟨a5.1, by omega⟩, ⟨a6.1, by omega⟩, own_g Z T1 T2 T3 a5 a7, by rw [Z.1.2.2.2.2.1 _ a6.1 a6.2, (Z.1.2.2.2.2.2.1 _ a5.1 a5.2).1]; exact a8⟩)))
  · obtain ⟨a1, a2, a3, a4, a5, a6⟩ := h
    exact Or.inr (Or.inr (Or.inr (Or.inr (Or.inl ⟨a1, a2, ⟨a3.1, by omega⟩, own_g Z T1 T2 T3 a3 a4, by rw [(Z.1.2.2.2.2.2.1 _ a3.1 a3.2).1]; exact a5, a6⟩))))
  · obtain ⟨a1, a2, a3, a4, a5, a6⟩ := h
    refine Or.inr (Or.inr (Or.inr (Or.inr (Or.inr ⟨a1, a2, ⟨a3.1, by omega⟩, own_g Z T1 T2 T3 a3 a4, a5, ?_⟩))))
    rw [(Z.1.2.2.2.2.2.1 _ a3.1 a3.2).1, Z.1.2.2.2.2.2.2.2.1, Z.1.2.2.2.2.2.2.2.2]
    rcases a6 with b | b | b
    · exact Or.inl b
    · exact Or.inr (Or.inl b)
    · exact Or.inr (Or.inr ⟨b.1, ⟨b.2.1.1, by omega⟩, by rw [Z.1.2.2.2.2.1 _ b.2.1.1 b.2.1.2]; exact b.2.2⟩)
/-- what the names in brackets mean -/
def nmR (σ : ga_S) : Prop := ∀ nm s, dN σ nm s = -1 ∨ (0 ≤ dN σ nm s ∧ dN σ nm s < mxN σ s)
theorem inTh_g (D : GD σ0 σ1) (R : nmR σ0) {k : Int → Int} {nm : Int → Int → List Int} {nk nk' i j : Int} (N : nG σ0 σ1 nk nk') (h : inTh σ0 k nm nk i j ≠ -1) : inTh σ1 k nm nk' i j = inTh σ0 k nm nk i j ∧ thO σ0 (-1) nk (inTh σ0 k nm nk i j) := by
  unfold inTh at h ⊢
  by_cases c1 : i < j ∧ k (j - 1) = 62
  · rw [if_pos c1] at h ⊢
    rw [if_pos c1]
    by_cases c2 : (j - i = 1 ∨ (j - i = 2 ∧ k i = 11)) ∧ nk ≠ -1
    · have r := N.resolve_left (fun z => c2.2 z.1)
      rw [if_pos c2, if_pos ⟨c2.1, by omega⟩]
      exact ⟨rfl, Or.inr (Or.inl ⟨rfl, c2.2⟩)⟩
    · rw [if_neg c2] at h; exact absurd rfl h
  · rw [if_neg c1] at h ⊢
    rw [if_neg c1]
    by_cases c3 : frK k (i + arK k i j) j = true
    · rw [if_pos c3] at h ⊢
      rw [if_pos c3]
      have r := (R (nm (i + arK k i j) j) 2).resolve_left h
      have m : mxN σ0 2 = σ0 fW_objects 0 0 := rfl
      exact ⟨D _ 2 (by decide) h, Or.inr (Or.inr ⟨r.1, by omega⟩)⟩
    · rw [if_neg c3] at h; exact absurd rfl h
theorem brV_g (Z : GZ σ0 σ1) (D : GD σ0 σ1) (R : nmR σ0) {k : Int → Int} {nm : Int → Int → List Int} {nk nk' n : Int} (N : nG σ0 σ1 nk nk') (h : brV σ0 k nm nk n = true) : brV σ1 k nm nk' n = true := by
  unfold brV at h ⊢
  by_cases c : ofK k n = n
  · rw [if_pos c] at h ⊢
    have z := of_decide_eq_true h
    rw [(inTh_g D R N z).1]
    exact h
  · rw [if_neg c] at h ⊢
    by_cases c2 : ofK k n < 2 ∨ k 0 ≠ 11 ∨ frK k 1 (ofK k n) = false
    · rw [if_pos c2] at h; cases h
    · rw [if_neg c2] at h ⊢
      rw [Bool.and_eq_true, Bool.and_eq_true] at h
      obtain ⟨⟨b1, b2⟩, b3⟩ := h
      have z := inTh_g D R N (of_decide_eq_true b1)
      have y := of_decide_eq_true b2
      have rp := (R (nm 1 (ofK k n)) 5).resolve_left y
      have m : mxN σ0 5 = σ0 fW_properties 0 0 := rfl
      have T := kdT_g Z (ik := -1) (Or.inl rfl) N z.2
      rw [z.1, D _ 5 (by decide) y, b1, b2, own_g Z T.1 T.2.1 T.2.2.1 ⟨rp.1, by omega⟩ b3]
      rfl
theorem sdV_g (Z : GZ σ0 σ1) (D : GD σ0 σ1) (R : nmR σ0) {B : Int → Int} {nk nk' e : Int} (N : nG σ0 σ1 nk nk') : ∀ (n : Nat) (p : Int), sdV σ0 B nk e n p = true → sdV σ1 B nk' e n p = true := by
  intro n
  induction n with
  | zero => intro p _; rfl
  | succ n ih =>
    intro p h
    unfold sdV at h ⊢
    by_cases c : p < e
    · rw [if_pos c] at h ⊢
      by_cases c1 : B p = 93
      · rw [if_pos c1] at h; cases h
      · rw [if_neg c1] at h ⊢
        by_cases c2 : B p = 91
        · rw [if_pos c2] at h ⊢
          by_cases c3 : clB B e (p + 1) = e ∨ B (clB B e (p + 1)) = 91
          · rw [if_pos c3] at h; cases h
          · rw [if_neg c3] at h ⊢
            rw [Bool.and_eq_true] at h ⊢
            refine ⟨?_, ih _ h.2⟩
            have g := h.1
            unfold brB at g ⊢
            rw [Bool.and_eq_true] at g ⊢
            exact ⟨g.1, brV_g Z D R N g.2⟩
        · rw [if_neg c2] at h ⊢; exact ih _ h
    · rw [if_neg c]
theorem stP_g (Z : GZ σ0 σ1) (D : GD σ0 σ1) (R : nmR σ0) {ik nk nk' : Int} {σ τ : ga_S} {s q x : Int} (hi : kO σ0 ik) (N : nG σ0 σ1 nk nk') (h : stP σ0 ik nk σ τ s q x) : stP σ1 ik nk' σ τ s q x := by
  obtain ⟨h1, h⟩ := h
  refine ⟨h1, ?_⟩
  have ca := Z.1.1 fW_actions (by decide)
  have cp := Z.1.1 fW_properties (by decide)
  rcases h with h | h | h | h | h | h
  · obtain ⟨a1, a2, a3, a4, a5, a6, a7, a8⟩ := h
    left
    rw [Z.1.2.2.2.2.2.2.2.1, Z.1.2.2.2.2.2.2.2.2]
    exact ⟨a1, a2, a3, a4, a5, a6, a7, sdV_g Z D R N _ _ a8⟩
  · exact Or.inr (Or.inl ⟨h.1, stT_g Z hi N h.2.1, h.2.2⟩)
  · obtain ⟨a1, a2, a3, a4, a5, a6, a7⟩ := h
    have T := kdT_g Z hi N a4
    exact Or.inr (Or.inr (Or.inl ⟨a1, a2, a3, T.2.2.2, isB_g Z T.1 T.2.1 T.2.2.1 a5, a6, (kdT_g Z hi N a7).2.2.2⟩))
  · obtain ⟨a1, a2, a3, a4, a5, a6, a7, a8⟩ := h
    have T := kdT_g Z hi N a3
    exact Or.inr (Or.inr (Or.inr (Or.inl ⟨a1, a2, T.2.2.2, a4, ⟨a5.1, by omega⟩, own_g Z T.1 T.2.1 T.2.2.1 a5 a6, by rw [(Z.1.2.2.2.2.2.1 _ a5.1 a5.2).1]; exact a7, a8⟩)))
  · exact Or.inr (Or.inr (Or.inr (Or.inr (Or.inl h))))
  · obtain ⟨a1, a2, a3, a4, a5⟩ := h
    refine Or.inr (Or.inr (Or.inr (Or.inr (Or.inr ⟨a1, a2, a3, ⟨a4.1, by omega⟩, ?_⟩))))
    rw [Z.1.2.2.2.2.2.2.1 _ a4.1 a4.2]
    rcases a5 with b | b
    · exact Or.inl b
    · exact Or.inr ⟨(kdT_g Z hi N b.1).2.2.2, b.2⟩
theorem adjO_g (Z : GZ σ0 σ1) {k x : Int} {df : Bool} (hk : 0 ≤ k ∧ k < σ0 fW_kinds 0 0) (h : adjO σ0 k df x) : adjO σ1 k df x := by
  have ck := Z.1.1 fW_kinds (by decide)
  have ca := Z.1.1 fW_adjectives (by decide)
  have cp := Z.1.1 fW_properties (by decide)
  have cv := Z.1.1 fW_values (by decide)
  rcases h with ⟨a1, a2, a3⟩ | ⟨v, p, e, h1, h2, h3, h4⟩
  · exact Or.inl ⟨a1, by omega, fitA_g Z hk ⟨hk.1, by omega⟩ (Or.inl rfl) ⟨a1, a2⟩ a3⟩
  · exact Or.inr ⟨v, p, e, ⟨h1.1, by omega⟩, ⟨h2.1, by omega⟩, own_g Z hk ⟨hk.1, by omega⟩ (Or.inl rfl) h2 h3, by rw [Z.1.2.2.2.2.1 _ h1.1 h1.2, (Z.1.2.2.2.2.2.1 _ h2.1 h2.2).1]; exact h4⟩
theorem nG_r (Z : GZ σ0 σ1) {nk : Int} (h : kO σ0 nk) : nG σ0 σ1 nk nk := by
  have ck := Z.1.1 fW_kinds (by decide)
  rcases h with h | h
  · exact Or.inl ⟨h, h⟩
  · exact Or.inr ⟨h, ⟨h.1, by omega⟩, Or.inl rfl⟩
theorem nG_k {nk nk' : Int} (h : nG σ0 σ1 nk nk') : kO σ1 nk' := by
  rcases h with h | h
  · exact Or.inl h.2
  · exact Or.inr h.2.1
theorem hdG_g (Z : GZ σ0 σ1) {nk : Int} {σ τ : ga_S} {n l : Int} (hk : kO σ0 nk) (h : hdG σ0 nk σ τ n l) : ∃ nk', nG σ0 σ1 nk nk' ∧ hdG σ1 nk' σ τ n l := by
  obtain ⟨a1, a2, a3, a4, a5, h⟩ := h
  have ck := Z.1.1 fW_kinds (by decide)
  have ca := Z.1.1 fW_actions (by decide)
  have co := Z.1.1 fW_objects (by decide)
  have ea := Z.1.2.2.2.2.2.2.1 _ a2.1 a2.2
  rcases h with h | h | h
  · obtain ⟨b1, b2, b3, b4⟩ := h
    exact ⟨nk, nG_r Z hk, a1, ⟨a2.1, by omega⟩, a3, a4, a5, Or.inl ⟨b1, b2, b3, by rw [ea]; exact b4⟩⟩
  · obtain ⟨b1, b2, b3, b4, b5, b6⟩ := h
    have r0 := Z.2.1.2 _ b1.1 b1.2
    have r1 := Z.2.2.2 _ b1.1 (by omega : σ fQ_object n 0 < σ1 fW_objects 0 0)
    have B := Z.1.2.2.1 _ b1.1 b1.2
    refine ⟨σ1 fW_kindOf 0 (σ fQ_object n 0), Or.inr ⟨by rw [b6]; exact r0, r1, by rw [b6]; exact B⟩, a1, ⟨a2.1, by omega⟩, a3, a4, a5, Or.inr (Or.inl ⟨⟨b1.1, by omega⟩, b2, b3, by rw [ea]; exact b4, ?_, rfl⟩)⟩
    rw [ea]
    exact isB_g Z r0 r1 B b5
  · obtain ⟨b1, b2, b3, b4, b5, L, l1, l2, l3, l4⟩ := h
    refine ⟨nk, nG_r Z hk, a1, ⟨a2.1, by omega⟩, a3, a4, a5, Or.inr (Or.inr ⟨b1, ⟨b2.1, by omega⟩, by rw [ea]; exact b3, ?_, b5, L, l1, l2, fun x hx => adjO_g Z b2 (l3 x hx), l4⟩)⟩
    rw [ea]
    exact isB_g Z b2 ⟨b2.1, by omega⟩ (Or.inl rfl) b4
theorem ruG_g (Z : GZ σ0 σ1) (D : GD σ0 σ1) (R : nmR σ0) {nk : Int} {σ τ : ga_S} {n l : Int} (hk : kO σ0 nk) (h : ruG σ0 nk σ τ n l) : ∃ nk', kO σ1 nk' ∧ ruG σ1 nk' σ τ n l := by
  obtain ⟨h1, h2, h3, h4, h5, h6, h7, h8⟩ := h
  have m : ∃ nk', nG σ0 σ1 nk nk' ∧ ((σ fQ_sort n 0 = 3 ∧ nk' = -1 ∧ hdZ σ τ n l) ∨ (σ fQ_sort n 0 ≠ 3 ∧ hdG σ1 nk' σ τ n l)) := by
    rcases h2 with z | z
    · exact ⟨-1, Or.inl ⟨z.2.1, rfl⟩, Or.inl ⟨z.1, rfl, z.2.2⟩⟩
    · obtain ⟨nk', x1, x2⟩ := hdG_g Z hk z.2
      exact ⟨nk', x1, Or.inr ⟨z.1, x2⟩⟩
  obtain ⟨nk', N, m2⟩ := m
  exact ⟨nk', nG_k N, h1, m2, h3, h4, h5, h6, fun k k0 k1 => stT_g Z (Or.inl rfl) N (h7 k k0 k1), fun k k0 k1 => stP_g Z D R (Or.inl rfl) N (h8 k k0 k1)⟩
end

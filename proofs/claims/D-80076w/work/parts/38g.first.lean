/-! the relation holds of the worlds as at first -/
theorem c5 {k : Int} (h0 : 0 ≤ k) (h1 : k < 5) : k = 0 ∨ k = 1 ∨ k = 2 ∨ k = 3 ∨ k = 4 := by omega
theorem bit3 : ∀ k : Int, 0 ≤ k → k < 16 → bitI 3 k = decide (k = 0 ∨ k = 1) := by
  intro k h0 h1
  have : k = 0 ∨ k = 1 ∨ k = 2 ∨ k = 3 ∨ k = 4 ∨ k = 5 ∨ k = 6 ∨ k = 7 ∨ k = 8 ∨ k = 9 ∨ k = 10 ∨ k = 11 ∨ k = 12 ∨ k = 13 ∨ k = 14 ∨ k = 15 := by omega
  rcases this with e | e | e | e | e | e | e | e | e | e | e | e | e | e | e | e <;> subst e <;> decide
theorem cw_of {σ τ : ga_S} {c a k : Int} {w : List Int} (A : CR σ c a k w) (B : CRM τ c a k w) (hw : isW w) (hl : w.length ≤ 12) (ha : 0 ≤ a ∧ a < σ fW_actions 0 0) (hk : (σ fW_actionKinds 0 a = -1 ∧ k = -1 ∧ w ≠ []) ∨ (σ fW_actionKinds 0 a = -2 ∧ k = -2) ∨ (0 ≤ σ fW_actionKinds 0 a ∧ (0 ≤ k ∧ k < σ fW_kinds 0 0) ∧ isB (σ fW_parents 0) k (σ fW_actionKinds 0 a) = true)) : cwC σ τ c := by
  obtain ⟨a1, a2, a3, a4, a5⟩ := A
  obtain ⟨b1, b2, b3, b4, b5⟩ := B
  have nr := nW_r w
  have row : ∀ x, 0 ≤ x → x < σ fW_commandWords 0 c → cwR σ τ c x := by
    intro x x0 x1
    rw [a4] at x1
    by_cases z : w = []
    · have n0 : nW w = 0 := by rw [z]; rfl
      have kn : k ≠ -1 := by
        intro e
        rw [if_pos e, n0] at x1
        omega
      rw [if_neg kn, n0] at x1
      have e : x = 0 := by omega
      refine Or.inl ⟨by rw [a3, if_neg kn, n0]; exact e, ?_⟩
      have := b5 kn
      rw [n0] at this
      rw [e]; exact this
    · have n1 := nW_1 z
      by_cases e : x = 0
      · have ne : x ≠ σ fW_commandSlots 0 c := by
          rw [a3, n1]
          split <;> omega
        obtain ⟨y1, y2, y3, y4⟩ := a5 z
        refine Or.inr ⟨ne, w, hw, z, hl, ?_, ?_, ?_, ?_, ?_⟩
        · rw [e, Int.add_zero]; exact b4 z
        · rw [e]; exact y1
        · rw [e]; exact y2
        · rw [e]; exact y3
        · rw [e]; exact y4
      · have kn : k ≠ -1 := by
          intro q
          rw [if_pos q, n1] at x1
          omega
        rw [if_neg kn, n1] at x1
        have e1 : x = 1 := by omega
        refine Or.inl ⟨by rw [a3, if_neg kn, n1]; exact e1, ?_⟩
        have := b5 kn
        rw [n1] at this
        rw [e1]; exact this
  refine ⟨⟨by rw [a1, b1], by rw [a1]; exact ha.1, by rw [a1]; exact ha.2⟩, ⟨by rw [a4, b3], ?_, ?_⟩, by rw [a2, b2], ?_, row⟩
  · rw [a4]
    rcases hk with ⟨_, e, z⟩ | ⟨_, e⟩ | ⟨_, e, _⟩
    · rw [if_pos e, nW_1 z]; decide
    · rw [if_neg (by omega)]; omega
    · rw [if_neg (by omega)]; omega
  · rw [a4]
    split <;> omega
  · rw [a1, a2, a3, a4]
    rcases hk with ⟨h, e, z⟩ | ⟨h, e⟩ | ⟨h, e, b⟩
    · exact Or.inl ⟨h, by rw [if_pos e], e⟩
    · rw [if_neg (by omega), if_neg (by omega)]
      exact Or.inr (Or.inl ⟨h, ⟨nr.1, by omega⟩, e⟩)
    · rw [if_neg (by omega), if_neg (by omega)]
      exact Or.inr (Or.inr ⟨h, ⟨nr.1, by omega⟩, e, b⟩)
theorem EB_w : ∀ k : Nat, k < EB.length → isW (EB.getD k dz).1 ∧ (EB.getD k dz).1 ≠ [] ∧ (EB.getD k dz).1.length ≤ 11 := by
  unfold isW
  decide +kernel
theorem EB_s : ∀ k : Nat, k < EB.length → 0 ≤ (EB.getD k dz).2.1 ∧ (EB.getD k dz).2.1 ≤ 12 ∧ (EB.getD k dz).2.1 ≠ 10 ∧ 0 ≤ (EB.getD k dz).2.2 ∧ (EB.getD k dz).2.2 < 100 := by
  decide +kernel
theorem EB_1 : ∀ k : Nat, k < EB.length → ∀ j : Nat, j < EB.length → (EB.getD k dz).1 = (EB.getD j dz).1 → k = j := by
  decide +kernel
theorem EB_2 : ∀ k : Nat, k < EB.length → ∀ j : Nat, j < EB.length → (EB.getD k dz).2 = (EB.getD j dz).2 → k = j := by
  decide +kernel
theorem EB_3 : ∀ k : Nat, k < EB.length → ∀ j : Nat, j < EB.length → sM (EB.getD k dz).2.1 (EB.getD k dz).2.2 = sM (EB.getD j dz).2.1 (EB.getD j dz).2.2 → iM (EB.getD k dz).2.1 (EB.getD k dz).2.2 = iM (EB.getD j dz).2.1 (EB.getD j dz).2.2 → k = j := by
  unfold sM iM
  decide +kernel
/-- the numbers are below the counts -/
def mx0 (s : Int) : Int := if s = 0 then 5 else if s = 1 then 2 else if s = 2 then 1 else if s = 3 then 2 else if s = 4 then 0 else if s = 5 then 1 else if s = 6 then 0 else if s = 7 then 0 else if s = 8 then 5 else if s = 9 then 6 else if s = 12 then 0 else 200
theorem EB_4 : ∀ k : Nat, k < EB.length → (EB.getD k dz).2.2 < mx0 (EB.getD k dz).2.1 ∧ ((EB.getD k dz).2.1 = 11 → (EB.getD k dz).2.2 < 5) := by
  unfold mx0
  decide +kernel

/-! the first store -/
/-- numbers 0, Token references and others null (-1), the rules' numbers -/
def gk_s0 : ga_S := fun F _ i => if F = fW_defined then i else if F = fW_rule then 24 + i else if F = fT_all then i else if F = fT_kinds ∨ F = fR_verb ∨ F = fR_inner ∨ F = fR_rule then -1 else if F = fR_draft then 48 else 0
theorem gk_s0_z {F : Nat} (h : [fW_defined, fW_rule, fT_all, fT_kinds, fR_verb, fR_inner, fR_rule, fR_draft].contains F = false) (n i : Int) : gk_s0 F n i = 0 := by
  have nm : F ∉ [fW_defined, fW_rule, fT_all, fT_kinds, fR_verb, fR_inner, fR_rule, fR_draft] := fun z => by
    rw [List.contains_iff_mem.mpr z] at h; cases h
  simp only [List.mem_cons, List.not_mem_nil, or_false, not_or] at nm
  obtain ⟨n1, n2, n3, n4, n5, n6, n7, n8⟩ := nm
  unfold gk_s0
  rw [if_neg n1, if_neg n2, if_neg n3, if_neg (by rintro (z | z | z | z) <;> contradiction), if_neg n8]

/-! faults of acts -/
/-- a fault of an act, on both sides: its code, its place -/
def AF (σ τ : ga_S) (why p : Int) : Prop := σ fR_fault 0 0 = why ∧ σ fR_where 0 0 = p ∧ τ fM_bestFault 0 0 = why ∧ τ fM_bestPlace 0 0 = p
theorem m_wrongA {τ : ga_S} (hb : τ fM_bestFault 0 0 = 0) {t why : Int} (ht : 0 ≤ t ∧ t < 5002) {d : Nat} (hd : 1 ≤ d) : ∃ τ', c_m_wrong d τ why t = some (0, τ') ∧ fr [fM_bestFault, fM_bestPlace] τ τ' ∧ τ' fM_bestFault 0 0 = why ∧ τ' fM_bestPlace 0 0 = τ fM_place 0 t := by
  obtain ⟨d, rfl⟩ : ∃ e, d = e + 1 := ⟨d - 1, by omega⟩
  refine ⟨ga_up (ga_up τ fM_bestFault 0 0 why) fM_bestPlace 0 0 (τ fM_place 0 t), ?_, fr_trans (fr_u (by decide)) (fr_u (by decide)), by rw [up_F (by decide), up_eq], by rw [up_eq]⟩
  rw [e_m_wrong, if_pos hb, ck_ok _ ht]
theorem k_noteA {σ : ga_S} (hf : σ fR_fault 0 0 = 0) {t why : Int} (ht : 0 ≤ t ∧ t < 5002) (hw : why = 5 ∨ why = 6) {d : Nat} (hd : 1 ≤ d) : ∃ σ', c_r_note d σ why t = some (0, σ') ∧ fr ntL σ σ' ∧ σ' fR_fault 0 0 = why ∧ σ' fR_where 0 0 = σ fT_places 0 t := by
  obtain ⟨d, rfl⟩ : ∃ e, d = e + 1 := ⟨d - 1, by omega⟩
  refine ⟨ga_up (ga_up (ga_up σ fR_fault 0 0 why) fR_where 0 0 (σ fT_places 0 t)) fR_rank 0 0 4, ?_, fr_trans (fr_u (by decide)) (fr_trans (fr_u (by decide)) (fr_u (by decide))), by rw [up_F (by decide), up_F (by decide), up_eq], by rw [up_F (by decide), up_eq]⟩
  rw [e_r_note, ck_ok _ ht, if_neg (by omega), if_neg (by omega), if_neg (by omega), if_neg (by omega), e_r_note_49, if_pos hf, e_r_note_83]
theorem k_otherwise {σ : ga_S} (hf : σ fR_fault 0 0 = 0) {t : Int} (ht : 0 ≤ t ∧ t < 5002) {d : Nat} (hd : 2 ≤ d) : ∃ σ', c_r_otherwise d σ t = some (0, σ') ∧ fr ntL σ σ' ∧ σ' fR_fault 0 0 = 5 ∧ σ' fR_where 0 0 = σ fT_places 0 t := by
  obtain ⟨d, rfl⟩ : ∃ e, d = e + 1 := ⟨d - 1, by omega⟩
  obtain ⟨σ', a1, a2⟩ := k_noteA hf ht (why := 5) (Or.inl rfl) (d := d) (by omega)
  refine ⟨σ', ?_, a2⟩
  rw [e_r_otherwise, a1]
  rfl

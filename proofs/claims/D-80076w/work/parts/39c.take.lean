/-! a story is taken from the tape, on both sides -/
theorem s_cpy_T {d : Nat} (hd : 1 ≤ d) (σ : ga_S) {v n : Int} (hv : 0 ≤ v) (hn : 0 ≤ n ∧ n ≤ 5000) : p_cpy_10_60 d σ 0 v 0 n = some (0, am_copy σ fX_tape 0 0 fT_bytes v 0 n) := by
  obtain ⟨d, rfl⟩ : ∃ e, d = e + 1 := ⟨d - 1, by omega⟩
  show ga_nn v (if (0 : Int) ≤ 0 ∧ (0 : Int) ≤ 0 ∧ (0 : Int) ≤ n ∧ (0 : Int) + n ≤ 5000 ∧ (0 : Int) + n ≤ 5000 then some ((0 : Int), am_copy σ fX_tape 0 0 fT_bytes v 0 n) else none) = _
  rw [nn_ok _ hv, if_pos (by omega)]
theorem s_cpy_S {d : Nat} (hd : 1 ≤ d) (σ : ga_S) {n : Int} (hn : 0 ≤ n ∧ n ≤ 5000) : p_cpy_88_89 d σ 0 0 n = some (0, am_copy σ fM_tape 0 0 fM_story 0 0 n) := by
  obtain ⟨d, rfl⟩ : ∃ e, d = e + 1 := ⟨d - 1, by omega⟩
  show (if (0 : Int) ≤ 0 ∧ (0 : Int) ≤ 0 ∧ (0 : Int) ≤ n ∧ (0 : Int) + n ≤ 5000 ∧ (0 : Int) + n ≤ 5000 then some ((0 : Int), am_copy σ fM_tape 0 0 fM_story 0 0 n) else none) = _
  rw [if_pos (by omega)]
def tkF : List Nat := [fT_bytes, fT_size, fT_at, fT_inText]
theorem k_take {σ : ga_S} {v n : Int} (hv : 0 ≤ v) (hn : 0 ≤ n ∧ n ≤ 5000) {d : Nat} (hd : 2 ≤ d) : ∃ σ', c_t_take_tape d σ v n = some (0, σ') ∧ fr tkF σ σ' ∧ (∀ F u, u ≠ v → σ' F u = σ F u) ∧ σ' fT_size v 0 = n ∧ σ' fT_at v 0 = 0 ∧ σ' fT_inText v 0 = 0 ∧ ∀ i, σ' fT_bytes v i = if 0 ≤ i ∧ i < n then σ fX_tape 0 i else σ fT_bytes v i := by
  obtain ⟨d, rfl⟩ : ∃ e, d = e + 1 := ⟨d - 1, by omega⟩
  obtain ⟨ρ, er⟩ : ∃ x, x = am_copy σ fX_tape 0 0 fT_bytes v 0 n := ⟨_, rfl⟩
  have f0 : fr [fT_bytes] σ ρ := by rw [er]; exact am_copy_fr _ _ _ _ _ _ _ _
  obtain ⟨σ', e'⟩ : ∃ x, x = ga_up (ga_up (ga_up ρ fT_size v 0 n) fT_at v 0 0) fT_inText v 0 0 := ⟨_, rfl⟩
  have f1 : fr [fT_size, fT_at, fT_inText] ρ σ' := by rw [e']; exact fr_trans (fr_trans (fr_u (by decide)) (fr_u (by decide))) (fr_u (by decide))
  refine ⟨σ', ?_, fr_trans (fr_sub f0 (by decide)) (fr_sub f1 (by decide)), fun F u hu => ?_, ?_, ?_, ?_, fun i => ?_⟩
  · rw [e_t_take_tape, nn_ok _ hv, s_cpy_T (by omega) σ hv hn, Option.bind_some, nn_ok _ hv, nn_ok _ hv, nn_ok _ hv, ← er, ← e']
  · funext i
    rw [e', er]
    unfold ga_up am_copy
    rw [if_neg (fun z => hu z.2.1), if_neg (fun z => hu z.2.1), if_neg (fun z => hu z.2.1), if_neg (fun z => hu z.2.1)]
  · rw [e', up_F (by decide), up_F (by decide), up_eq]
  · rw [e', up_F (by decide), up_eq]
  · rw [e', up_eq]
  · rw [f1 _ (by decide), er]
    by_cases c : 0 ≤ i ∧ i < n
    · rw [if_pos c, am_copy_at _ _ _ _ _ _ _ _ (by omega), show i - 0 + 0 = i by omega]
    · rw [if_neg c, am_copy_no _ _ _ _ _ _ _ _ (by omega)]
/-- between two calls: tape, texts, what is out -/
def AQ0 (σ τ : ga_S) : Prop := (τ fM_tape 0 = σ fX_tape 0 ∧ τ fM_size 0 0 = σ fX_taped 0 0 ∧ (0 ≤ σ fX_taped 0 0 ∧ σ fX_taped 0 0 ≤ 5000) ∧ ∀ i, -128 ≤ σ fX_tape 0 i ∧ σ fX_tape 0 i < 128) ∧
  (τ fM_story 0 = σ fT_bytes 0 ∧ σ fT_bytes 1 = σ fT_bytes 0 ∧ byteR σ 0 ∧ τ fM_storySize 0 0 = σ fT_size 0 0 ∧ σ fT_size 1 0 = σ fT_size 0 0 ∧ (0 ≤ σ fT_size 0 0 ∧ σ fT_size 0 0 ≤ 5000)) ∧
  (rAll σ 0 ∧ rAll σ 1 ∧ σ fT_inText 1 0 = 0) ∧ (rKeys τ ∧ σ fU_definedWithin 0 0 = 0) ∧
  (τ fM_outSize 0 0 = σ fU_outs 0 0 ∧ (0 ≤ σ fU_outs 0 0 ∧ σ fU_outs 0 0 ≤ 2000) ∧ ∀ i, 0 ≤ i → i < σ fU_outs 0 0 → τ fM_out 0 i = σ fU_out 0 i)
def aqC : List Nat := [fX_tape, fX_taped, fT_bytes, fT_size, fT_all, fT_inText, fU_definedWithin, fU_outs, fU_out]
def aqM : List Nat := [fM_tape, fM_size, fM_story, fM_storySize, fM_keyWords, fM_outSize, fM_out]
theorem AQ0_f {σ τ σ1 τ1 : ga_S} (h : AQ0 σ τ) {L M : List Nat} (f1 : fr L σ σ1) (hL : aqC.all (fun F => !(L.contains F)) = true) (f2 : fr M τ τ1) (hM : aqM.all (fun F => !(M.contains F)) = true) : AQ0 σ1 τ1 := by
  have c : ∀ F, F ∈ aqC → σ1 F = σ F := fun F hF => fr_no f1 hL hF
  have m : ∀ F, F ∈ aqM → τ1 F = τ F := fun F hF => fr_no f2 hM hF
  unfold AQ0 byteR rAll rKeys at h ⊢
  rw [c fX_tape (by decide), c fX_taped (by decide), c fT_bytes (by decide), c fT_size (by decide), c fT_all (by decide), c fT_inText (by decide), c fU_definedWithin (by decide), c fU_outs (by decide), c fU_out (by decide), m fM_tape (by decide), m fM_size (by decide), m fM_story (by decide), m fM_storySize (by decide), m fM_keyWords (by decide), m fM_outSize (by decide), m fM_out (by decide)]
  exact h
def AQ (σ τ : ga_S) : Prop := AQ0 σ τ ∧ 0 ≤ σ fX_alloc 0 0 ∧ τ fM_isDry 0 0 = 0 ∧ τ fM_fault 0 0 = σ fR_fault 0 0
theorem RU_RL {σ τ : ga_S} (W : WK σ τ) (R : RL σ τ) : RU0 σ ∧ RM σ τ := by
  obtain ⟨S, ⟨r1, r2, r3⟩, _, _, r4, _⟩ := R
  have fo := W.1.1
  have ab := W.1.2.2.2.1
  have sl : ∀ l, 0 ≤ l → l < 24 → 0 ≤ σ fW_rule 0 l := by
    intro l l0 l1
    have := S.1 l (by omega) (by omega)
    unfold sl at this
    rw [if_pos l1] at this
    exact this.1
  have all : ∀ l, 0 ≤ l → l < σ fW_rules 0 0 → (0 ≤ rS σ l ∧ rS σ l < 4) ∧ (σ fQ_kind (σ fW_rule 0 l) 0 = -1 ∨ (0 ≤ σ fQ_kind (σ fW_rule 0 l) 0 ∧ σ fQ_kind (σ fW_rule 0 l) 0 < σ fW_kinds 0 0)) ∧ (0 ≤ σ fQ_adjectives (σ fW_rule 0 l) 0 ∧ σ fQ_adjectives (σ fW_rule 0 l) 0 ≤ 6) ∧ τ fM_ruleSort 0 l = rS σ l ∧ τ fM_ruleObject 0 l = σ fQ_object (σ fW_rule 0 l) 0 ∧ τ fM_ruleKind 0 l = σ fQ_kind (σ fW_rule 0 l) 0 ∧ τ fM_ruleAdjectives 0 l = σ fQ_adjectives (σ fW_rule 0 l) 0 ∧ τ fM_ruleTests 0 l = rT σ l := by
    intro l l0 l1
    obtain ⟨nk, _, g1, g2, g3, _⟩ := r4 l l0 l1
    have s := g1.2
    rcases g2 with ⟨_, _, z1, z2⟩ | ⟨_, h1, h2, h3, h4, h5, h6⟩
    · exact ⟨⟨s.1, by have := s.2; unfold rS; omega⟩, Or.inl z2.2.2.1, by omega, g1.1, by rw [z1.2.1, z2.2.1], by rw [z1.2.2.1, z2.2.2.1], by rw [z1.2.2.2, z2.2.2.2], g3.1⟩
    · refine ⟨⟨s.1, by have := s.2; unfold rS; omega⟩, ?_, ?_, g1.1, h3, h4, h5, g3.1⟩
      · rcases h6 with h | h | h
        · exact Or.inl h.2.1
        · exact Or.inl h.2.1
        · exact Or.inr h.2.1
      · rcases h6 with h | h | h
        · omega
        · omega
        · obtain ⟨_, _, _, _, _, L, e1, e2, _⟩ := h
          omega
  exact ⟨⟨⟨r2, r3⟩, fo, fun i i0 i1 => ⟨sl i i0 (by omega), (all i i0 i1).1, (all i i0 i1).2.1, (all i i0 i1).2.2.1⟩⟩, r1, ab, fun l l0 l1 => (all l l0 l1).2.2.2⟩

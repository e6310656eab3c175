/-! separators, things, places -/
theorem s_nx {σ τ : ga_S} {f : Int} {N : Nat} (hE : ENV σ τ f N) (h : PR σ τ f N) {d : Nat} (hd : 1 ≤ d) {c m : Int} (hm : m = cdM c) (hc : 0 ≤ c ∧ c < 64) : c_m_isNext d τ m = some (b2i (decide (σ fR_bad 0 0 = -1 ∧ σ fT_kinds 0 (σ fR_p 0 0) = c)), τ) := by
  rw [hm]; exact s_m_isNext hE h hd hc
theorem P_take' {σ τ : ga_S} {f : Int} {N : Nat} (hE : ENV σ τ f N) (h : PR σ τ f N) {d : Nat} (hd : 2 ≤ d) {c m : Int} (hm : m = cdM c) (hc : 0 ≤ c ∧ c < 64) (h3 : c ≠ 3) (h8 : c ≠ 8) : ∃ v σ' τ', c_r_take d σ c = some (v, σ') ∧ c_m_take d τ m = some (0, τ') ∧ PR σ' τ' f N ∧ fr pcL σ σ' ∧ fr pmL τ τ' ∧ (σ' fR_bad 0 0 = -1 ↔ (σ fR_bad 0 0 = -1 ∧ σ fT_kinds 0 (σ fR_p 0 0) = c)) ∧ (σ' fR_bad 0 0 = -1 → σ' fR_p 0 0 = σ fR_p 0 0 + 1) := by
  rw [hm]; exact P_take hE h hd hc h3 h8
/-- a step over a token that isn't a stop -/
theorem PR_1 {σ τ : ga_S} {f : Int} {N : Nat} (hE : ENV σ τ f N) (h : PR σ τ f N) {c : Int} (hc : σ fR_bad 0 0 = -1 ∧ σ fT_kinds 0 (σ fR_p 0 0) = c) (h3 : c ≠ 3) (h8 : c ≠ 8) : PR (ga_up σ fR_p 0 0 (σ fR_p 0 0 + 1)) (ga_up τ fM_at 0 0 (τ fM_at 0 0 + 1)) f N ∧ σ fR_p 0 0 < N ∧ τ fM_at 0 0 = f + σ fR_p 0 0 := by
  have h' := h.2.resolve_right (fun z => by omega)
  have lt := ENV_lt hE h'.2.2.2.1 hc.2 h3 h8
  exact ⟨PR_step h hc.1 (by omega) (by omega), lt, h'.2.2.2.2⟩
/-- a separator, on both sides -/
theorem P_sep {σ τ : ga_S} {f : Int} {N : Nat} (hE : ENV σ τ f N) (h : PR σ τ f N) {d : Nat} (hd : 2 ≤ d) : ∃ b σ' τ', c_r_separator d σ = some (b2i b, σ') ∧ c_m_isMore d τ = some (b2i b, τ') ∧ PR σ' τ' f N ∧ fr pcL σ σ' ∧ fr pmL τ τ' ∧ σ' fR_bad = σ fR_bad ∧ (b = true → σ fR_bad 0 0 = -1 ∧ σ fR_p 0 0 < σ' fR_p 0 0) ∧ (b = false → σ' = σ ∧ τ' = τ) := by
  obtain ⟨d, rfl⟩ : ∃ e, d = e + 1 := ⟨d - 1, by omega⟩
  have hf := hE.1
  have hN := hE.2.1
  have hR := h.1
  rw [e_r_separator, e_m_isMore, s_r_takes hE h (by omega) 4, s_nx hE h (by omega) (c := 4) (by decide) (by omega)]
  simp only [Option.bind_some]
  by_cases c : σ fR_bad 0 0 = -1 ∧ σ fT_kinds 0 (σ fR_p 0 0) = 4
  · obtain ⟨P1, lt, ea⟩ := PR_1 hE h c (by omega) (by omega)
    have E1 : ENV (ga_up σ fR_p 0 0 (σ fR_p 0 0 + 1)) (ga_up τ fM_at 0 0 (τ fM_at 0 0 + 1)) f N := ENV_c hE (up_F (by decide) ..) (up_F (by decide) ..)
    have i : τ fM_token 0 (f + (σ fR_p 0 0 + 1)) = 116 ↔ σ fT_kinds 0 (σ fR_p 0 0 + 1) = 25 := ENV_is hE (k := σ fR_p 0 0 + 1) (c := 25) (by omega) (by omega) (by omega)
    rw [decide_eq_true c, if_pos c, if_neg b2i_n, if_neg b2i_n, s_r_takes E1 P1 (by omega) 25]
    simp only [Option.bind_some]
    rw [w32_ok (by omega), ck_ok _ (by omega), up_F (F' := fR_bad) (by decide), up_F (F' := fT_kinds) (by decide), up_eq, ea, show f + σ fR_p 0 0 + 1 = f + (σ fR_p 0 0 + 1) by omega]
    by_cases c2 : σ fT_kinds 0 (σ fR_p 0 0 + 1) = 25
    · rw [if_pos (i.mpr c2), if_pos ⟨c.1, c2⟩, e_m_isMore_43, up_up, up_up, w32_ok (by omega)]
      have lt2 := ENV_lt hE (by omega) c2 (by omega) (by omega)
      refine ⟨true, _, _, rfl, rfl, ?_, fr_u (by decide), fr_u (by decide), up_F (by decide) .., fun _ => ⟨c.1, by rw [up_eq]; omega⟩, fun z => by cases z⟩
      have := PR_step h c.1 (n := 2) (by omega) (by omega)
      rw [ea] at this
      rw [show σ fR_p 0 0 + 1 + 1 = σ fR_p 0 0 + 2 by omega, show f + (σ fR_p 0 0 + 1) + 1 = f + σ fR_p 0 0 + 2 by omega]
      exact this
    · rw [if_neg (fun z => c2 (i.mp z)), if_neg (fun z => c2 z.2), e_m_isMore_43, up_up, Int.add_zero, w32_ok (by omega)]
      refine ⟨true, _, _, rfl, rfl, ?_, fr_u (by decide), fr_u (by decide), up_F (by decide) .., fun _ => ⟨c.1, by rw [up_eq]; omega⟩, fun z => by cases z⟩
      rw [ea, show f + σ fR_p 0 0 + 1 = f + (σ fR_p 0 0 + 1) by omega] at P1
      exact P1
  · rw [decide_eq_false c, if_neg c, if_pos b2i_f, if_pos b2i_f, s_r_takes hE h (by omega) 25, s_nx hE h (by omega) (c := 25) (by decide) (by omega)]
    simp only [Option.bind_some]
    by_cases c2 : σ fR_bad 0 0 = -1 ∧ σ fT_kinds 0 (σ fR_p 0 0) = 25
    · obtain ⟨P1, lt, ea⟩ := PR_1 hE h c2 (by omega) (by omega)
      rw [decide_eq_true c2, if_pos c2, if_neg b2i_n, z1_ok _ (by decide), w32_ok (by omega)]
      exact ⟨true, _, _, rfl, rfl, P1, fr_u (by decide), fr_u (by decide), up_F (by decide) .., fun _ => ⟨c2.1, by rw [up_eq]; omega⟩, fun z => by cases z⟩
    · rw [decide_eq_false c2, if_neg c2, if_pos b2i_f, z1_ok _ (by decide)]
      exact ⟨false, _, _, rfl, rfl, h, fr_refl _ _, fr_refl _ _, rfl, fun z => (by cases z), fun _ => ⟨rfl, rfl⟩⟩
/-- a thing from a to b: it, noun, or a name -/
def thR (σ τ : ga_S) (f a b s t r : Int) : Prop := a < b ∧ ((σ fT_kinds 0 a = 63 ∧ b = a + 1 ∧ s = 0 ∧ t = f + a) ∨ (σ fT_kinds 0 a ≠ 63 ∧ σ fT_kinds 0 (b - 1) = 62 ∧ (b = a + 1 ∨ b = a + 2 ∧ σ fT_kinds 0 a = 11) ∧ s = 1 ∧ t = f + a) ∨
  (σ fT_kinds 0 a ≠ 63 ∧ ∃ c, c = a + (if 9 ≤ σ fT_kinds 0 a ∧ σ fT_kinds 0 a ≤ 12 then 1 else 0) ∧ c < b ∧ (∀ q, c ≤ q → q < b → σ fT_kinds 0 q = 0) ∧ s = 2 ∧ t = f + c ∧ 0 ≤ r ∧ r < τ fM_runs 0 0 ∧ τ fM_runFrom 0 r = f + c ∧ τ fM_runSize 0 r = b - c))
def tcL : List Nat := [fR_p, fR_bad, fR_runs, fR_runFrom, fR_runTo, fR_thingFrom, fR_thingTo]
def tmL : List Nat := [fM_at, fM_isBad, fM_badAt, fM_runs, fM_runFrom, fM_runSize, fM_thingSort, fM_thingRun, fM_thingAt]
theorem fr_rc {σ σ' : ga_S} (h : fr rcL σ σ') : fr tcL σ σ' := fr_sub h (by decide)
theorem fr_rm {τ τ' : ga_S} (h : fr rmL τ τ') : fr tmL τ τ' := fr_sub h (by decide)
/-- the model's runs so far stay -/
def rKeep (τ τ' : ga_S) : Prop := τ fM_runs 0 0 ≤ τ' fM_runs 0 0 ∧ (∀ i, i < τ fM_runs 0 0 → τ' fM_runFrom 0 i = τ fM_runFrom 0 i ∧ τ' fM_runSize 0 i = τ fM_runSize 0 i)
theorem rKeep_refl (τ : ga_S) : rKeep τ τ := ⟨Int.le_refl _, fun _ _ => ⟨rfl, rfl⟩⟩
theorem rKeep_eq {τ τ' : ga_S} (h1 : τ' fM_runs = τ fM_runs) (h2 : τ' fM_runFrom = τ fM_runFrom) (h3 : τ' fM_runSize = τ fM_runSize) : rKeep τ τ' := ⟨by rw [h1]; exact Int.le_refl _, fun i _ => by rw [h2, h3]; exact ⟨rfl, rfl⟩⟩
theorem rKeep_trans {τ τ1 τ2 : ga_S} (h : rKeep τ τ1) (h2 : rKeep τ1 τ2) : rKeep τ τ2 := ⟨Int.le_trans h.1 h2.1, fun i hi => by
  have a := h.2 i hi
  have b := h2.2 i (by have := h.1; omega)
  exact ⟨b.1.trans a.1, b.2.trans a.2⟩⟩
theorem rOk_keep {σ σ' τ τ' : ga_S} {f : Int} {N : Nat} {a r : Int} (h : rOk σ σ' τ τ' f N a r) : rKeep τ τ' := by
  obtain ⟨-, -, -, -, -, -, h7, -, -, h10, h11⟩ := h
  refine ⟨by omega, fun i hi => ?_⟩
  rw [h10, h11, if_neg (by omega), if_neg (by omega)]
  exact ⟨rfl, rfl⟩
theorem rBad_keep {σ σ' τ τ' : ga_S} (h : rBad σ σ' τ τ') : rKeep τ τ' := rKeep_eq h.2.2.1 h.2.2.2.2.2.1 h.2.2.2.2.2.2
theorem thR_keep {σ τ τ' : ga_S} {f a b s t r : Int} (h : thR σ τ f a b s t r) (hk : rKeep τ τ') : thR σ τ' f a b s t r := by
  obtain ⟨h0, h | h | h⟩ := h
  · exact ⟨h0, Or.inl h⟩
  · exact ⟨h0, Or.inr (Or.inl h)⟩
  · obtain ⟨g1, c, g2, g3, g4, g5, g6, g7, g8, g9, g10⟩ := h
    have k := hk.2 r g8
    exact ⟨h0, Or.inr (Or.inr ⟨g1, c, g2, g3, g4, g5, g6, g7, by have := hk.1; omega, by rw [k.1]; exact g9, by rw [k.2]; exact g10⟩)⟩

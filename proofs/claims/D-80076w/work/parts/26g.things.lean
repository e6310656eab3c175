/-! things of tests and phrases -/
def artN (σ0 : ga_S) (a : Int) : Int := if 9 ≤ σ0 fT_kinds 0 a ∧ σ0 fT_kinds 0 a ≤ 12 then 1 else 0
/-- a thing as the component has it: -2 it, -3 noun, an object; -1 none -/
def thV (σ0 : ga_S) (ik nk a b : Int) : Int := if σ0 fT_kinds 0 a = 63 then (if ik = -1 then -1 else -2) else if σ0 fT_kinds 0 (b - 1) = 62 then (if nk = -1 then -1 else -3) else dN σ0 (nmT σ0 (a + artN σ0 a) b) 2
def thW (σ0 : ga_S) (a b : Int) : Int := if σ0 fT_kinds 0 a = 63 then a else if σ0 fT_kinds 0 (b - 1) = 62 then a else a + artN σ0 a
def thC (σ0 : ga_S) (ik nk a b : Int) : Int := if thV σ0 ik nk a b = -1 then cd σ0 (thW σ0 a b) 2 else 1000000
def thS (σ0 : ga_S) (N : Nat) (a b : Int) : Prop := (0 ≤ a ∧ a < b ∧ b ≤ N) ∧ (σ0 fT_kinds 0 a = 63 ∨ σ0 fT_kinds 0 (b - 1) = 62 ∨ (a + artN σ0 a < b ∧ frB σ0 N (a + artN σ0 a) b))
/-- the same thing as the model has it -/
def mT (v : Int) : Int := if v = -1 then -9 else if v = -2 then -1 else if v = -3 then -2 else v
def thO (σ0 : ga_S) (ik nk v : Int) : Prop := (v = -2 ∧ ik ≠ -1) ∨ (v = -3 ∧ nk ≠ -1) ∨ (0 ≤ v ∧ v < σ0 fW_objects 0 0)
def kdT (σ0 : ga_S) (ik nk v : Int) : Int := if v = -2 then ik else if v = -3 then nk else σ0 fW_kindOf 0 v
def kO (σ0 : ga_S) (k : Int) : Prop := k = -1 ∨ (0 ≤ k ∧ k < σ0 fW_kinds 0 0)
theorem artN_r (σ0 : ga_S) (a : Int) : 0 ≤ artN σ0 a ∧ artN σ0 a ≤ 1 := by
  unfold artN
  split <;> omega
theorem thE_k {σ σ0 τ : ga_S} {f a b x r : Int} (h : thE σ τ f a b x r) (hk : σ fT_kinds 0 = σ0 fT_kinds 0) : thE σ0 τ f a b x r := by
  unfold thE thR at h ⊢
  rw [hk] at h
  exact h
theorem rnR_k {σ σ0 τ : ga_S} {f r a b : Int} (h : rnR σ τ f r a b) (hk : σ fT_kinds 0 = σ0 fT_kinds 0) : rnR σ0 τ f r a b := by
  unfold rnR at h ⊢
  rw [hk] at h
  exact h
theorem thE_S {σ0 τ : ga_S} {f a b x r : Int} {N : Nat} (h : thE σ0 τ f a b x r) (ha : 0 ≤ a) (hb : b ≤ N) : thS σ0 N a b := by
  obtain ⟨s, t, e, t0, t1, hl, h⟩ := h
  refine ⟨⟨ha, hl, hb⟩, ?_⟩
  rcases h with h | h | ⟨h1, c, h2, h3, h4, h5⟩
  · exact Or.inl h.1
  · exact Or.inr (Or.inl h.2.1)
  · have e : c = a + artN σ0 a := h2
    rw [e] at h3 h4
    have := artN_r σ0 a
    exact Or.inr (Or.inr ⟨h3, ⟨by omega, Int.le_of_lt h3, hb, h4⟩⟩)
theorem thW_r {σ0 : ga_S} {N : Nat} {a b : Int} (S : thS σ0 N a b) : a ≤ thW σ0 a b ∧ thW σ0 a b < b := by
  obtain ⟨⟨h1, h2, h3⟩, h4⟩ := S
  have := artN_r σ0 a
  unfold thW
  by_cases c1 : σ0 fT_kinds 0 a = 63
  · rw [if_pos c1]; omega
  · rw [if_neg c1]
    by_cases c2 : σ0 fT_kinds 0 (b - 1) = 62
    · rw [if_pos c2]; omega
    · rw [if_neg c2]
      have := (h4.resolve_left c1).resolve_left c2
      omega
theorem thW_t {σ0 : ga_S} {N : Nat} {a b : Int} (S : thS σ0 N a b) : 0 ≤ thW σ0 a b ∧ thW σ0 a b ≤ N := by
  have := thW_r S
  obtain ⟨⟨h1, h2, h3⟩, h4⟩ := S
  omega
section
variable {σ0 τ0 : ga_S} {f : Int} {N : Nat}
theorem thV_r (E : E0 σ0 τ0 f N) (ik nk a b : Int) : thV σ0 ik nk a b = -1 ∨ thO σ0 ik nk (thV σ0 ik nk a b) := by
  unfold thV thO
  by_cases c1 : σ0 fT_kinds 0 a = 63
  · rw [if_pos c1]
    by_cases c2 : ik = -1
    · rw [if_pos c2]; exact Or.inl rfl
    · rw [if_neg c2]; exact Or.inr (Or.inl ⟨rfl, c2⟩)
  · rw [if_neg c1]
    by_cases c2 : σ0 fT_kinds 0 (b - 1) = 62
    · rw [if_pos c2]
      by_cases c3 : nk = -1
      · rw [if_pos c3]; exact Or.inl rfl
      · rw [if_neg c3]; exact Or.inr (Or.inr (Or.inl ⟨rfl, c3⟩))
    · rw [if_neg c2]
      rcases e0_dN E (nmT σ0 (a + artN σ0 a) b) 2 with h | h
      · exact Or.inl h
      · exact Or.inr (Or.inr (Or.inr ⟨h.1, h.2.1⟩))
theorem kdT_r (E : E0 σ0 τ0 f N) {ik nk v : Int} (hi : kO σ0 ik) (hn : kO σ0 nk) (h : thO σ0 ik nk v) : 0 ≤ kdT σ0 ik nk v ∧ kdT σ0 ik nk v < σ0 fW_kinds 0 0 := by
  unfold kdT kO at *
  rcases h with h | h | h
  · rw [if_pos h.1]; omega
  · rw [if_neg (by omega), if_pos h.1]; omega
  · rw [if_neg (by omega), if_neg (by omega)]
    have := (e0_o E).2.2.2 v h.1 h.2
    omega
theorem k_kindOf {σ : ga_S} (E : E0 σ0 τ0 f N) (K : KC σ0 σ) {ik nk v : Int} (hi : σ fR_itKind 0 0 = ik) (hn : σ fR_nounKind 0 0 = nk) (h : thO σ0 ik nk v) {d : Nat} (hd : 1 ≤ d) : c_r_kindOf d σ v = some (kdT σ0 ik nk v, σ) := by
  obtain ⟨d, rfl⟩ : ∃ e, d = e + 1 := ⟨d - 1, by omega⟩
  have wo := (e0_o E).2.1
  unfold kdT
  rw [e_r_kindOf, hi, hn]
  rcases h with h | h | h
  · rw [if_pos h.1, if_pos h.1]
  · rw [if_neg (by omega), if_pos h.1, if_neg (by omega), if_pos h.1]
  · rw [if_neg (by omega), if_neg (by omega), if_neg (by omega), if_neg (by omega), ck_ok _ (by omega), K.1 _ (by decide)]
theorem m_kindOfThing {τ : ga_S} (E : E0 σ0 τ0 f N) (K : KM τ0 τ) {ik nk v : Int} (hi : τ fM_itKind 0 0 = ik) (hn : τ fM_nounKind 0 0 = nk) (h : thO σ0 ik nk v) {d : Nat} (hd : 1 ≤ d) : c_m_kindOfThing d τ (mT v) = some (kdT σ0 ik nk v, τ) := by
  obtain ⟨d, rfl⟩ : ∃ e, d = e + 1 := ⟨d - 1, by omega⟩
  have wo := (e0_o E).2.1
  rw [e_m_kindOfThing, hi, hn]
  rcases h with h | h | h
  · have em : mT v = -1 := by unfold mT; rw [if_neg (by omega), if_pos h.1]
    unfold kdT
    rw [em, if_pos rfl, if_pos h.1]
  · have em : mT v = -2 := by unfold mT; rw [if_neg (by omega), if_neg (by omega), if_pos h.1]
    unfold kdT
    rw [em, if_neg (by decide), if_pos rfl, if_neg (by omega), if_pos h.1]
  · have em : mT v = v := by unfold mT; rw [if_neg (by omega), if_neg (by omega), if_neg (by omega)]
    unfold kdT
    rw [em, if_neg (by omega), if_neg (by omega), if_neg (by omega), if_neg (by omega), if_neg (by omega), ck_ok _ (by omega), K _ (by decide), ((e0_o E).2.2.2 v h.1 h.2).2.2]
theorem mT_9 {ik nk v : Int} (h : v = -1 ∨ thO σ0 ik nk v) : mT v = -9 ↔ v = -1 := by
  unfold mT thO at *
  by_cases c : v = -1
  · rw [if_pos c]; simp [c]
  · rw [if_neg c]
    rcases h with h | h | h | h
    · exact absurd h c
    · rw [if_pos h.1]; omega
    · rw [if_neg (by omega), if_pos h.1]; omega
    · rw [if_neg (by omega), if_neg (by omega)]; omega
theorem k_thingOf {σ : ga_S} (E : E0 σ0 τ0 f N) (K : KC σ0 σ) {c : Int} (hF : FT σ c) {a b ik nk : Int} (S : thS σ0 N a b) (hi : σ fR_itKind 0 0 = ik) (hn : σ fR_nounKind 0 0 = nk) {d : Nat} (hd : 6 ≤ d) : ∃ σ', c_r_thingOf d σ a b = some (thV σ0 ik nk a b, σ') ∧ fr ndL σ σ' ∧ KC σ0 σ' ∧ FT σ' (min c (thC σ0 ik nk a b)) := by
  obtain ⟨d, rfl⟩ : ∃ e, d = e + 1 := ⟨d - 1, by omega⟩
  have tP := thW_t S
  obtain ⟨⟨h1, h2, h3⟩, h4⟩ := S
  have hN := E.1.2.2.1
  have le := FT_le hF
  have kk : σ fT_kinds 0 = σ0 fT_kinds 0 := K.2.1 _ (by decide)
  have ka := E.1.2.2.2.1 a h1 (by omega)
  unfold thC
  unfold thV thW at *
  rw [e_r_thingOf, s_r_is (by omega) (by omega), kk]
  simp only [Option.bind_some]
  by_cases c1 : σ0 fT_kinds 0 a = 63
  · rw [decide_eq_true c1, if_neg b2i_n, if_pos c1, if_pos c1, hi]
    by_cases c2 : ik = -1
    · rw [if_pos c1] at tP
      obtain ⟨σ2, g1, g2, g3⟩ := k_note E.2.1 hN K hF (t := a) (r := 2) (why := 4) tP (by omega) (by decide) (d := d) (by omega)
      rw [if_pos c2, if_pos c2, if_pos rfl, g1]
      exact ⟨σ2, rfl, fr_sub g2 (by decide), KC_f K g2 (by decide), g3⟩
    · rw [if_neg c2, if_neg c2, if_neg (by decide), Int.min_eq_left le]
      exact ⟨σ, rfl, fr_refl _ _, K, hF⟩
  · rw [decide_eq_false c1, if_pos b2i_f, if_neg c1, if_neg c1, w32_ok (by omega), s_r_is (by omega) (by omega), kk]
    simp only [Option.bind_some]
    by_cases c2 : σ0 fT_kinds 0 (b - 1) = 62
    · rw [decide_eq_true c2, if_neg b2i_n, if_pos c2, if_pos c2, hn]
      by_cases c3 : nk = -1
      · rw [if_neg c1, if_pos c2] at tP
        obtain ⟨σ2, g1, g2, g3⟩ := k_note E.2.1 hN K hF (t := a) (r := 2) (why := 4) tP (by omega) (by decide) (d := d) (by omega)
        rw [if_pos c3, if_pos c3, if_pos rfl, g1]
        exact ⟨σ2, rfl, fr_sub g2 (by decide), KC_f K g2 (by decide), g3⟩
      · rw [if_neg c3, if_neg c3, if_neg (by decide), Int.min_eq_left le]
        exact ⟨σ, rfl, fr_refl _ _, K, hF⟩
    · have fB := (h4.resolve_left c1).resolve_left c2
      obtain ⟨σ2, g1, g2, g3, g4⟩ := k_need E K hF fB.2 (d := d) (by omega) 2
      have s84 : r_thingOf_84 d σ b (artN σ0 a) a = some (dN σ0 (nmT σ0 (a + artN σ0 a) b) 2, σ2) := by
        have := artN_r σ0 a
        rw [e_r_thingOf_84, w32_ok (by omega), g1]; rfl
      rw [decide_eq_false c2, if_pos b2i_f, if_neg c2, if_neg c2, ck_ok _ (by omega), kk, nn_ok _ ka.1, s_k_isArticle (by omega)]
      simp only [Option.bind_some]
      refine ⟨σ2, ?_, g2, g3, g4⟩
      unfold artN at s84
      by_cases c3 : 9 ≤ σ0 fT_kinds 0 a ∧ σ0 fT_kinds 0 a ≤ 12
      · rw [decide_eq_true c3, if_neg b2i_n]
        rw [if_pos c3] at s84
        unfold artN
        rw [if_pos c3]
        exact s84
      · rw [decide_eq_false c3, if_pos b2i_f]
        rw [if_neg c3] at s84
        unfold artN
        rw [if_neg c3]
        exact s84
theorem m_meant {τ : ga_S} (E : E0 σ0 τ0 f N) (K : KM τ0 τ) {c : Int} (hF : GT τ c) {a b ik nk x r : Int} (T : thE σ0 τ0 f a b x r) (S : thS σ0 N a b) (hm : τ0 fM_runs 0 0 ≤ 2600) (hi : τ fM_itKind 0 0 = ik) (hn : τ fM_nounKind 0 0 = nk) {d : Nat} (hd : 5 ≤ d) : ∃ τ', c_m_meant d τ x r = some (mT (thV σ0 ik nk a b), τ') ∧ fr ntM τ τ' ∧ KM τ0 τ' ∧ GT τ' (min c (thC σ0 ik nk a b)) := by
  obtain ⟨d, rfl⟩ : ∃ e, d = e + 1 := ⟨d - 1, by omega⟩
  have tP := thW_t S
  have vr := thV_r E ik nk a b
  obtain ⟨s, t, ex, t0, t1, hl, h⟩ := T
  have fin : ∀ v3, m_meant_83 d τ t (mT (thV σ0 ik nk a b)) = m_meant_98 d τ t (mT (thV σ0 ik nk a b)) (if thV σ0 ik nk a b = -1 then 0 else 1) ∧ (v3 ≠ 2 → m_meant_63 d τ v3 t (mT (thV σ0 ik nk a b)) = m_meant_83 d τ t (mT (thV σ0 ik nk a b))) := by
    intro v3
    constructor
    · rw [e_m_meant_83]
      by_cases z : thV σ0 ik nk a b = -1
      · rw [if_pos ((mT_9 vr).mpr z), if_pos z]
      · rw [if_neg (fun y => z ((mT_9 vr).mp y)), if_neg z]
    · intro z
      rw [e_m_meant_63, if_neg z, e_m_meant_81]
  have hs : 0 ≤ s ∧ s ≤ 2 := by
    rcases h with h | h | ⟨_, c, h⟩ <;> omega
  have ed : w32 (Int.tdiv x 10000) = s := by
    rw [Int.tdiv_eq_ediv_of_nonneg (by omega), w32_ok (by omega)]; omega
  have em : w32 (Int.tmod x 10000) = t := by
    rw [Int.tmod_eq_emod_of_nonneg (by omega), w32_ok (by omega)]; omega
  have et : t = f + thW σ0 a b := by
    unfold thW
    rcases h with h | h | ⟨h1, c, h2, h3, h4, h5⟩
    · rw [if_pos h.1]; exact h.2.2.2
    · rw [if_neg h.1, if_pos h.2.1]; exact h.2.2.2.2
    · have z := h4 (b - 1) (by omega) (by omega)
      have e : c = a + artN σ0 a := h2
      rw [if_neg h1, if_neg (by omega), ← e]; exact h5.2.1
  obtain ⟨τ', g1, g2, g3, g4⟩ := m_needI E K hF (thV σ0 ik nk a b = -1) tP et (r := 2) (why := 4) (by omega) (by decide) (d := d) (by omega)
  have s98 : m_meant_98 d τ t (mT (thV σ0 ik nk a b)) (if thV σ0 ik nk a b = -1 then 0 else 1) = some (mT (thV σ0 ik nk a b), τ') := by
    rw [e_m_meant_98, g1]; rfl
  refine ⟨τ', ?_, g2, g3, g4⟩
  rw [e_m_meant, ed, em, hi, hn]
  rcases h with h | h | ⟨h1, c, h2, h3, h4, h5⟩
  · have ev : thV σ0 ik nk a b = if ik = -1 then -1 else -2 := by unfold thV; rw [if_pos h.1]
    rw [if_pos h.2.2.1]
    have q := (fin s).2 (by omega)
    rw [(fin s).1, s98] at q
    by_cases z : ik = -1
    · rw [if_pos z] at ev ⊢
      rw [ev] at q ⊢; exact q
    · rw [if_neg z] at ev ⊢
      rw [ev] at q ⊢; exact q
  · have ev : thV σ0 ik nk a b = if nk = -1 then -1 else -3 := by unfold thV; rw [if_neg h.1, if_pos h.2.1]
    rw [if_neg (by omega), if_pos h.2.2.2.1]
    have q := (fin s).2 (by omega)
    rw [(fin s).1, s98] at q
    by_cases z : nk = -1
    · rw [if_pos z] at ev ⊢
      rw [ev] at q ⊢; exact q
    · rw [if_neg z] at ev ⊢
      rw [ev] at q ⊢; exact q
  · have e : c = a + artN σ0 a := h2
    have zb := h4 (b - 1) (by omega) (by omega)
    have ev : thV σ0 ik nk a b = dN σ0 (nmT σ0 (a + artN σ0 a) b) 2 := by unfold thV; rw [if_neg h1, if_neg (by omega)]
    have fB : frB σ0 N (a + artN σ0 a) b := by
      have := artN_r σ0 a
      have := S.1
      exact ⟨by omega, by omega, by omega, by rw [← e]; exact h4⟩
    rw [if_neg (by omega), if_neg (by omega), m_meansRun E K fB (r := r) (by omega) (by rw [← e]; exact h5.2.2.2.2.1) (by rw [← e]; exact h5.2.2.2.2.2) (by omega), mN_dN (s := 2) (by omega)]
    simp only [Option.bind_some]
    rw [← ev, e_m_meant_63, if_pos h5.1]
    have q := (fin s).1
    rw [s98] at q
    by_cases z : thV σ0 ik nk a b = -1
    · rw [if_pos z]
      have : mT (thV σ0 ik nk a b) = -9 := (mT_9 vr).mpr z
      rw [this] at q ⊢
      exact q
    · have : mT (thV σ0 ik nk a b) = thV σ0 ik nk a b := by
        have r2 := e0_dN E (nmT σ0 (a + artN σ0 a) b) 2
        rw [← ev] at r2
        unfold mT
        rw [if_neg z, if_neg (by omega), if_neg (by omega)]
      rw [if_neg z, e_m_meant_81]
      rw [this] at q ⊢
      exact q
end

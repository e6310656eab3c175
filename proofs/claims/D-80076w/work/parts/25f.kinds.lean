/-! kinds and types by name; the least notes -/
def kdN (σ : ga_S) (nm : List Int) : Int := if dN σ nm 0 = -1 then (if dN σ nm 11 < 100 then dN σ nm 11 else -1) else dN σ nm 0
def tyN (σ : ga_S) (nm : List Int) : Int := if dN σ nm 1 = -1 then (if dN σ nm 11 < 100 then -1 else dN σ nm 11 - 100) else dN σ nm 1
section
variable {σ0 τ0 : ga_S} {f : Int} {N : Nat}
theorem k_kindNamed {σ : ga_S} (E : E0 σ0 τ0 f N) (K : KC σ0 σ) {a b : Int} (h : frB σ0 N a b) {d : Nat} (hd : 5 ≤ d) : ∃ σ', c_r_kindNamed d σ a b = some (kdN σ0 (nmT σ0 a b), σ') ∧ fr spL σ σ' ∧ KC σ0 σ' := by
  obtain ⟨d, rfl⟩ : ∃ e, d = e + 1 := ⟨d - 1, by omega⟩
  obtain ⟨σ1, e1, e2, e3, e4⟩ := k_mean E K h (d := d) (by omega) 0
  rw [e_r_kindNamed, e1]
  simp only [Option.bind_some]
  rw [k_of E e4 e3 (by omega)]
  simp only [Option.bind_some]
  refine ⟨σ1, ?_, e2, e4⟩
  unfold kdN
  by_cases q : dN σ0 (nmT σ0 a b) 0 = -1
  · rw [if_pos q, if_pos q]
    by_cases z : dN σ0 (nmT σ0 a b) 11 < 100
    · rw [if_pos z, if_pos z]
    · rw [if_neg z, if_neg z]
  · rw [if_neg q, if_neg q]
theorem k_typeNamed {σ : ga_S} (E : E0 σ0 τ0 f N) (K : KC σ0 σ) {a b : Int} (h : frB σ0 N a b) {d : Nat} (hd : 5 ≤ d) : ∃ σ', c_r_typeNamed d σ a b = some (tyN σ0 (nmT σ0 a b), σ') ∧ fr spL σ σ' ∧ KC σ0 σ' := by
  obtain ⟨d, rfl⟩ : ∃ e, d = e + 1 := ⟨d - 1, by omega⟩
  obtain ⟨σ1, e1, e2, e3, e4⟩ := k_mean E K h (d := d) (by omega) 1
  have rg := e0_dN E (nmT σ0 a b) 11
  rw [e_r_typeNamed, e1]
  simp only [Option.bind_some]
  rw [k_of E e4 e3 (by omega)]
  simp only [Option.bind_some]
  refine ⟨σ1, ?_, e2, e4⟩
  unfold tyN
  by_cases q : dN σ0 (nmT σ0 a b) 1 = -1
  · rw [if_pos q, if_pos q]
    by_cases z : dN σ0 (nmT σ0 a b) 11 < 100
    · rw [if_pos z, if_pos z]
    · rw [if_neg z, if_neg z, w32_ok (by omega)]
  · rw [if_neg q, if_neg q]
theorem k_needKind {σ : ga_S} (E : E0 σ0 τ0 f N) (K : KC σ0 σ) {c : Int} (hF : FT σ c) {a b : Int} (h : frB σ0 N a b) {d : Nat} (hd : 6 ≤ d) : ∃ σ', c_r_needKind d σ a b = some (kdN σ0 (nmT σ0 a b), σ') ∧ fr ndL σ σ' ∧ KC σ0 σ' ∧ FT σ' (min c (if kdN σ0 (nmT σ0 a b) = -1 then cd σ0 a 2 else 1000000)) := by
  obtain ⟨d, rfl⟩ : ∃ e, d = e + 1 := ⟨d - 1, by omega⟩
  obtain ⟨σ1, e1, e2, e4⟩ := k_kindNamed E K h (d := d) (by omega)
  have F1 := FT_f hF e2 (by decide)
  rw [e_r_needKind, e1]
  simp only [Option.bind_some]
  by_cases q : kdN σ0 (nmT σ0 a b) = -1
  · have h1 := h.1
    have h2 := h.2.1
    have h3 := h.2.2.1
    obtain ⟨σ2, g1, g2, g3⟩ := k_note E.2.1 E.1.2.2.1 e4 F1 (t := a) (r := 2) (why := 4) (by omega) (by omega) (by decide) (d := d) (by omega)
    rw [if_pos q, if_pos q, g1]
    exact ⟨σ2, rfl, fr_trans (fr_sub e2 (by decide)) (fr_sub g2 (by decide)), KC_f e4 g2 (by decide), g3⟩
  · rw [if_neg q, if_neg q]
    refine ⟨σ1, rfl, fr_sub e2 (by decide), e4, ?_⟩
    have := FT_le hF
    rw [show min c 1000000 = c by omega]
    exact F1
theorem mN_k (E : E0 σ0 τ0 f N) (nm : List Int) : mN σ0 nm 0 = dN σ0 nm 0 ∧ mN σ0 nm 1 = (if dN σ0 nm 11 < 100 then dN σ0 nm 11 else -1) ∧ mN σ0 nm 2 = dN σ0 nm 1 ∧ mN σ0 nm 3 = (if dN σ0 nm 11 < 100 then -1 else dN σ0 nm 11 - 100) := by
  have k := mN_kinds (σ := σ0) (nm := nm) (fun k hk => (E.2.2.1.2.2.2.2.2.2.2 k hk).2.2.2.1)
  refine ⟨mN_dN (by omega), k.1, mN_dN (by omega), ?_⟩
  rw [k.2]
  by_cases q : dN σ0 nm 11 < 100
  · rw [if_pos q, if_neg (by omega)]
  · rw [if_neg q, if_pos (by omega)]
theorem m_kindOrPlural {τ : ga_S} (E : E0 σ0 τ0 f N) (K : KM τ0 τ) {r a b : Int} (hr : RU σ0 τ0 f N r a b) {d : Nat} (hd : 5 ≤ d) : c_m_kindOrPlural d τ r = some (kdN σ0 (nmT σ0 a b), τ) := by
  obtain ⟨d, rfl⟩ : ∃ e, d = e + 1 := ⟨d - 1, by omega⟩
  obtain ⟨r0, r1, r2, hb⟩ := hr
  have M := mN_k E (nmT σ0 a b)
  rw [e_m_kindOrPlural, m_meansRun E K hb r0 r1 r2 (by omega), M.1]
  simp only [Option.bind_some]
  unfold kdN
  by_cases q : dN σ0 (nmT σ0 a b) 0 = -1
  · rw [if_pos q, if_pos q, m_meansRun E K hb r0 r1 r2 (by omega), M.2.1]
    rfl
  · rw [if_neg q, if_neg q]
theorem m_typeOrPlural {τ : ga_S} (E : E0 σ0 τ0 f N) (K : KM τ0 τ) {r a b : Int} (hr : RU σ0 τ0 f N r a b) {d : Nat} (hd : 5 ≤ d) : c_m_typeOrPlural d τ r = some (tyN σ0 (nmT σ0 a b), τ) := by
  obtain ⟨d, rfl⟩ : ∃ e, d = e + 1 := ⟨d - 1, by omega⟩
  obtain ⟨r0, r1, r2, hb⟩ := hr
  have M := mN_k E (nmT σ0 a b)
  rw [e_m_typeOrPlural, m_meansRun E K hb r0 r1 r2 (by omega), M.2.2.1]
  simp only [Option.bind_some]
  unfold tyN
  by_cases q : dN σ0 (nmT σ0 a b) 1 = -1
  · rw [if_pos q, if_pos q, m_meansRun E K hb r0 r1 r2 (by omega), M.2.2.2]
    rfl
  · rw [if_neg q, if_neg q]
theorem m_meansNothing {τ : ga_S} (E : E0 σ0 τ0 f N) (K : KM τ0 τ) {r a b : Int} (hr : RU σ0 τ0 f N r a b) {d : Nat} (hd : 3 ≤ d) : c_m_meansNothing d τ r = some (b2i (decide (fnd σ0 (nmT σ0 a b) 0 = -1)), τ) := by
  obtain ⟨d, rfl⟩ : ∃ e, d = e + 1 := ⟨d - 1, by omega⟩
  obtain ⟨r0, r1, r2, hb⟩ := hr
  obtain ⟨k', m1, m2, m3⟩ := m_mean E K hb (t := f + a) (n := b - a) rfl rfl (d := d) (by omega)
  rw [e_m_meansNothing, ck_ok _ r0, ck_ok _ r0, K _ (by decide), K _ (by decide), r1, r2, m1]
  simp only [Option.bind_some]
  by_cases q : fnd σ0 (nmT σ0 a b) 0 = -1
  · rw [if_pos (m2 q), decide_eq_true q]; rfl
  · have := m3 q
    rw [if_neg (by omega), decide_eq_false q]; rfl
end

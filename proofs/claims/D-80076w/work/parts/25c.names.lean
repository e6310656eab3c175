/-! names of a sentence: what they mean, on both sides -/
def nmT (σ : ga_S) (a b : Int) : List Int := jn (wsT σ 0 a b)
def frB (σ : ga_S) (N : Nat) (a b : Int) : Prop := 0 ≤ a ∧ a ≤ b ∧ b ≤ N ∧ ∀ q, a ≤ q → q < b → σ fT_kinds 0 q = 0
theorem rnR_B {σ τ : ga_S} {f : Int} {N : Nat} (hE : ENV σ τ f N) {r a b : Int} (h : rnR σ τ f r a b) : frB σ N a b := by
  obtain ⟨h1, h2, h3, h4, h5, h6, h7⟩ := h
  refine ⟨h6.1, Int.le_of_lt h5, ?_, h7⟩
  refine Classical.byContradiction fun hc => ?_
  have := h6.2 N (by omega) (by omega)
  have := hE.2.2.2.2.1
  omega
theorem frB_s {σ : ga_S} {N : Nat} {a b a' b' : Int} (h : frB σ N a b) (h1 : a ≤ a') (h2 : a' ≤ b') (h3 : b' ≤ b) : frB σ N a' b' := ⟨by have := h.1; omega, h2, by have := h.2.2.1; omega, fun q x y => h.2.2.2 q (by omega) (by omega)⟩
theorem rg_getD {α : Type} (g : Int → α) (z : α) : ∀ (i : Nat) (a b : Int), a + i < b → ((rg a b).map g).getD i z = g (a + i) := by
  intro i
  induction i with
  | zero =>
    intro a b h
    rw [rg_s (by simpa using h)]
    simp
  | succ i ih =>
    intro a b h
    rw [rg_s (by omega), List.map_cons, List.getD_cons_succ, ih (a + 1) b (by omega)]
    congr 1
    push_cast
    omega
theorem wsT_len {σ : ga_S} {a b : Int} (h : a ≤ b) : ((wsT σ 0 a b).length : Int) = b - a := by
  unfold wsT
  rw [List.length_map, rg_len, if_pos h]
theorem wsT_W {σ τ : ga_S} {f : Int} {N : Nat} (E : TOK σ τ f N) {a b : Int} (h : frB σ N a b) : wsW (wsT σ 0 a b) := by
  intro w hw
  obtain ⟨k, hk, rfl⟩ := List.mem_map.mp hw
  have m := (rg_mem a).mp hk
  have t := E.2.2.2.1 k (by have := h.1; omega) (by have := h.2.2.1; omega) (h.2.2.2 k m.1 m.2)
  exact ⟨t.1, t.2.1, t.2.2.1⟩
theorem tW_of {σ τ τ' : ga_S} {f : Int} {N : Nat} (hf : 0 ≤ f ∧ f + N ≤ 5001) (E : TOK σ τ f N) (hw : τ' fM_word = τ fM_word) {a b : Int} (h : frB σ N a b) : tW τ' (f + a) (wsT σ 0 a b) := by
  have l := wsT_len (σ := σ) h.2.1
  have h0 := h.1
  have h2 := h.2.2.1
  refine ⟨by omega, by omega, fun i hi => ?_⟩
  have g : (wsT σ 0 a b).getD i [] = wT σ 0 (a + i) := rg_getD (wT σ 0) [] i a b (by omega)
  have t := E.2.2.2.1 (a + i) (by omega) (by omega) (h.2.2.2 _ (by omega) (by omega))
  rw [g, hw, Int.add_assoc]
  exact t.2.2.2
theorem tIn_of {σ0 τ0 σ : ga_S} {f : Int} {N : Nat} (E : TOK σ0 τ0 f N) (hN : (N : Int) ≤ 5000) (K : KC σ0 σ) {k : Int} (h0 : 0 ≤ k) (h1 : k ≤ N) : tIn σ 0 k := by
  have t := E.2.1 k h0 h1
  unfold tIn
  rw [K.2.1 fT_places (by decide), K.2.1 fT_lengths (by decide), K.1 fT_size (by decide)]
  exact ⟨h0, by omega, t.1, t.2.1, t.2.2.1⟩
theorem wsT_K {σ0 σ : ga_S} (K : KC σ0 σ) (a b : Int) : wsT σ 0 a b = wsT σ0 0 a b := by
  unfold wsT wT
  rw [K.2.1 fT_places (by decide), K.2.1 fT_lengths (by decide), K.1 fT_bytes (by decide)]
/-- the words at hand -/
def AT (σ : ga_S) (nm : List Int) : Prop := spl σ = nm.take 1000 ∧ 0 ≤ σ fD_size 0 0 ∧ σ fD_size 0 0 ≤ 1000
section
variable {σ0 τ0 : ga_S} {f : Int} {N : Nat}
theorem k_spell {σ : ga_S} (E : E0 σ0 τ0 f N) (K : KC σ0 σ) {a b : Int} (h : frB σ0 N a b) {d : Nat} (hd : 2 ≤ d) : ∃ σ', c_d_spellT d σ 0 a b = some (0, σ') ∧ fr spL σ σ' ∧ AT σ' (nmT σ0 a b) := by
  obtain ⟨σ', e1, e2, e3⟩ := s_d_spellT (σ := σ) (d := d) hd (v := 0) (a := a) (b := b) (Int.le_refl 0) (by rw [K.1 fT_size (by decide)]; exact E.2.1.1.1) (fun i => by rw [K.1 fT_bytes (by decide)]; exact E.2.1.1.2 i) (fun k h1 h2 => tIn_of E.2.1 E.1.2.2.1 K (by have := h.1; omega) (by have := h.2.2.1; omega)) h.2.1
  rw [wsT_K K] at e3
  exact ⟨σ', e1, e2, e3⟩
theorem k_of {σ : ga_S} (E : E0 σ0 τ0 f N) (K : KC σ0 σ) {nm : List Int} (A : AT σ nm) {d : Nat} (hd : 3 ≤ d) (s : Int) : c_d_of d σ s = some (dN σ0 nm s, σ) := by
  have D := dic_c (KC_dic K)
  rw [s_d_of hd (D.2.2.2 E.2.2.1.1) A.2.1 A.2.2, D.2.1, A.1, (dN_take E.2.2.1 nm).1]
theorem k_sort {σ : ga_S} (E : E0 σ0 τ0 f N) (K : KC σ0 σ) {nm : List Int} (A : AT σ nm) {d : Nat} (hd : 3 ≤ d) : c_d_sort d σ = some (dS σ0 nm, σ) := by
  have D := dic_c (KC_dic K)
  rw [s_d_sort hd (D.2.2.2 E.2.2.1.1) A.2.1 A.2.2, D.2.2.1, A.1, (dN_take E.2.2.1 nm).2]
theorem k_find {σ : ga_S} (E : E0 σ0 τ0 f N) (K : KC σ0 σ) {nm : List Int} (A : AT σ nm) {d : Nat} (hd : 2 ≤ d) : c_d_find d σ = some (fnd σ0 nm 0, σ) := by
  have D := dic_c (KC_dic K)
  rw [s_d_find hd (D.2.2.2 E.2.2.1.1) A.2.1 A.2.2, D.1, A.1, fnd_take E.2.2.1 nm]
theorem k_mean {σ : ga_S} (E : E0 σ0 τ0 f N) (K : KC σ0 σ) {a b : Int} (h : frB σ0 N a b) {d : Nat} (hd : 4 ≤ d) (s : Int) : ∃ σ', c_r_mean d σ a b s = some (dN σ0 (nmT σ0 a b) s, σ') ∧ fr spL σ σ' ∧ AT σ' (nmT σ0 a b) ∧ KC σ0 σ' := by
  obtain ⟨d, rfl⟩ : ∃ e, d = e + 1 := ⟨d - 1, by omega⟩
  obtain ⟨σ', e1, e2, e3⟩ := k_spell E K h (d := d) (by omega)
  have K' := KC_f K e2 (by decide)
  rw [e_r_mean, e1]
  simp only [Option.bind_some]
  rw [k_of E K' e3 (by omega)]
  exact ⟨σ', rfl, e2, e3, K'⟩
def ndL : List Nat := [fD_size, fD_spelled, fR_fault, fR_where, fR_rank]
theorem k_need {σ : ga_S} (E : E0 σ0 τ0 f N) (K : KC σ0 σ) {c : Int} (hF : FT σ c) {a b : Int} (h : frB σ0 N a b) {d : Nat} (hd : 5 ≤ d) (s : Int) : ∃ σ', c_r_need d σ a b s = some (dN σ0 (nmT σ0 a b) s, σ') ∧ fr ndL σ σ' ∧ KC σ0 σ' ∧ FT σ' (min c (if dN σ0 (nmT σ0 a b) s = -1 then cd σ0 a 2 else 1000000)) := by
  obtain ⟨d, rfl⟩ : ∃ e, d = e + 1 := ⟨d - 1, by omega⟩
  obtain ⟨σ1, e1, e2, e3, e4⟩ := k_mean E K h (d := d) (by omega) s
  have F1 := FT_f hF e2 (by decide)
  rw [e_r_need, e1]
  simp only [Option.bind_some]
  by_cases q : dN σ0 (nmT σ0 a b) s = -1
  · have h1 := h.1
    have h2 := h.2.1
    have h3 := h.2.2.1
    obtain ⟨σ2, g1, g2, g3⟩ := k_note E.2.1 E.1.2.2.1 e4 F1 (t := a) (r := 2) (why := 4) (by omega) (by omega) (by decide) (d := d) (by omega)
    rw [if_pos q, if_pos q, g1]
    exact ⟨σ2, rfl, fr_trans (fr_sub e2 (by decide)) (fr_sub g2 (by decide)), KC_f e4 g2 (by decide), g3⟩
  · rw [if_neg q, if_neg q]
    refine ⟨σ1, rfl, fr_sub e2 (by decide), e4, ?_⟩
    have := FT_le hF
    rw [show min c 1000000 = c by omega]
    exact F1
theorem m_means {τ : ga_S} (E : E0 σ0 τ0 f N) (K : KM τ0 τ) {a b t n : Int} (h : frB σ0 N a b) (ht : t = f + a) (hn : n = b - a) {d : Nat} (hd : 3 ≤ d) (ms : Int) : c_m_means d τ t n ms = some (mN σ0 (nmT σ0 a b) ms, τ) := by
  have R := RD_m (KM_lex K) E.2.2.1
  have l := wsT_len (σ := σ0) h.2.1
  have w := tW_of (τ' := τ) ⟨E.1.1, E.1.2.1⟩ E.2.1 (K _ (by decide)) h
  have m := s_m_means R hd (wsT_W E.2.1 h) w ms
  rw [ht, hn, ← l]
  exact m
theorem m_mean {τ : ga_S} (E : E0 σ0 τ0 f N) (K : KM τ0 τ) {a b t n : Int} (h : frB σ0 N a b) (ht : t = f + a) (hn : n = b - a) {d : Nat} (hd : 2 ≤ d) : ∃ k', c_m_mean d τ t n = some (k', τ) ∧ (fnd σ0 (nmT σ0 a b) 0 = -1 → k' = -1) ∧ (fnd σ0 (nmT σ0 a b) 0 ≠ -1 → 0 ≤ k' ∧ k' < 300 ∧ τ fM_lexSort 0 k' = sM (σ0 fD_sorts 0 (fnd σ0 (nmT σ0 a b) 0)) (σ0 fD_numbers 0 (fnd σ0 (nmT σ0 a b) 0)) ∧ τ fM_lexIndex 0 k' = iM (σ0 fD_sorts 0 (fnd σ0 (nmT σ0 a b) 0)) (σ0 fD_numbers 0 (fnd σ0 (nmT σ0 a b) 0))) := by
  have R := RD_m (KM_lex K) E.2.2.1
  have l := wsT_len (σ := σ0) h.2.1
  have w := tW_of (τ' := τ) ⟨E.1.1, E.1.2.1⟩ E.2.1 (K _ (by decide)) h
  obtain ⟨k', m1, m2, m3⟩ := s_m_mean R hd (wsT_W E.2.1 h) w
  rw [ht, hn, ← l]
  refine ⟨k', m1, m2, fun z => ?_⟩
  have := m3 z
  have := R.2.2.1
  exact ⟨by omega, by omega, (m3 z).2.2⟩
/-- a run of the model's, as it was ahead of the check -/
theorem m_meansRun {τ : ga_S} (E : E0 σ0 τ0 f N) (K : KM τ0 τ) {a b r : Int} (h : frB σ0 N a b) (hr : 0 ≤ r ∧ r < 2600) (h1 : τ0 fM_runFrom 0 r = f + a) (h2 : τ0 fM_runSize 0 r = b - a) {d : Nat} (hd : 4 ≤ d) (ms : Int) : c_m_meansRun d τ r ms = some (mN σ0 (nmT σ0 a b) ms, τ) := by
  obtain ⟨d, rfl⟩ : ∃ e, d = e + 1 := ⟨d - 1, by omega⟩
  rw [e_m_meansRun, ck_ok _ hr, ck_ok _ hr, K _ (by decide), K _ (by decide), m_means E K h h1 h2 (by omega)]
  rfl
theorem m_need {τ : ga_S} (E : E0 σ0 τ0 f N) (K : KM τ0 τ) {c : Int} (hF : GT τ c) {t t' r why g : Int} (ht : 0 ≤ t ∧ t ≤ N) (he : t' = f + t) (hr : 0 ≤ r ∧ r ≤ 4) (hw : why = fOf r) {d : Nat} (hd : 3 ≤ d) : ∃ τ', c_m_need d τ g why t' = some (0, τ') ∧ fr ntM τ τ' ∧ KM τ0 τ' ∧ GT τ' (min c (if g = 0 then cd σ0 t r else 1000000)) := by
  obtain ⟨d, rfl⟩ : ∃ e, d = e + 1 := ⟨d - 1, by omega⟩
  rw [e_m_need]
  by_cases q : g = 0
  · obtain ⟨τ', e1, e2, e3⟩ := m_note E.2.1 ⟨E.1.1, E.1.2.1⟩ K hF ht he hr hw (d := d) (by omega)
    rw [if_pos q, if_pos q, e1]
    exact ⟨τ', rfl, e2, KM_f K e2 (by decide), e3⟩
  · rw [if_neg q, if_neg q]
    have := GT_le hF
    rw [show min c 1000000 = c by omega]
    exact ⟨τ, rfl, fr_refl _ _, K, hF⟩
theorem m_kindOfRun {τ : ga_S} (E : E0 σ0 τ0 f N) (K : KM τ0 τ) {c : Int} (hF : GT τ c) {a b r : Int} (h : frB σ0 N a b) (hr : 0 ≤ r ∧ r < 2600) (h1 : τ0 fM_runFrom 0 r = f + a) (h2 : τ0 fM_runSize 0 r = b - a) {d : Nat} (hd : 5 ≤ d) : ∃ τ', c_m_kindOfRun d τ r = some (dN σ0 (nmT σ0 a b) 0, τ') ∧ fr ntM τ τ' ∧ KM τ0 τ' ∧ GT τ' (min c (if dN σ0 (nmT σ0 a b) 0 = -1 then cd σ0 a 2 else 1000000)) := by
  obtain ⟨d, rfl⟩ : ∃ e, d = e + 1 := ⟨d - 1, by omega⟩
  have i1 := h.1
  have i2 := h.2.1
  have i3 := h.2.2.1
  have em : mN σ0 (nmT σ0 a b) 0 = dN σ0 (nmT σ0 a b) 0 := mN_dN (by omega)
  have go : ∀ g : Int, ∃ τ', m_kindOfRun_18 d τ r (dN σ0 (nmT σ0 a b) 0) g = some (dN σ0 (nmT σ0 a b) 0, τ') ∧ fr ntM τ τ' ∧ KM τ0 τ' ∧ GT τ' (min c (if g = 0 then cd σ0 a 2 else 1000000)) := by
    intro g
    obtain ⟨τ', e1, e2, e3, e4⟩ := m_need E K hF (t := a) (t' := f + a) (r := 2) (why := 4) (g := g) (by omega) rfl (by omega) (by decide) (d := d) (by omega)
    rw [e_m_kindOfRun_18, ck_ok _ hr, K _ (by decide), h1, e1]
    exact ⟨τ', rfl, e2, e3, e4⟩
  rw [e_m_kindOfRun, m_meansRun E K h hr h1 h2 (by omega), em]
  simp only [Option.bind_some]
  by_cases q : dN σ0 (nmT σ0 a b) 0 = -1
  · rw [if_pos q, if_pos q]
    have g := go 0
    rw [if_pos rfl] at g
    exact g
  · rw [if_neg q, if_neg q]
    have g := go 1
    rw [if_neg (by decide)] at g
    exact g
end

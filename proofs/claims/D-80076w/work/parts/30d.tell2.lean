/-! a name of the sentence is told on both sides -/
theorem jn_len : ∀ (W : List (List Int)), (∀ w ∈ W, w.length ≤ 12) → (jn W).length ≤ 13 * W.length := by
  intro W
  induction W with
  | nil => intro _; simp [jn]
  | cons w r ih =>
    intro h
    have a := h w (List.mem_cons_self ..)
    have b := ih (fun v hv => h v (List.mem_cons_of_mem _ hv))
    cases r with
    | nil => simp [jn]; omega
    | cons x r' =>
      show (w ++ 32 :: jn (x :: r')).length ≤ _
      rw [List.length_append, List.length_cons]
      simp only [List.length_cons] at b ⊢
      omega
/-- the tokens at hand are those of σ0 -/
def tkS (σ0 σ : ga_S) : Prop := (∀ F, F ∈ tk1 → σ F 0 = σ0 F 0) ∧ σ fT_bytes 0 = σ0 fT_bytes 0 ∧ σ fT_size 0 = σ0 fT_size 0 ∧ DX σ0 σ ∧ GC σ0 σ
def tkM : List Nat := [fM_token, fM_place, fM_word, fM_length, fM_story, fM_storySize, fM_runFrom, fM_runSize, fM_runs]
def tkT (τ0 τ : ga_S) : Prop := ∀ F, F ∈ tkM → τ F = τ0 F
def tkA : List Nat := [fT_places, fT_lengths, fT_wrong, fT_kinds, fT_count, fT_bytes, fT_size]
theorem tk_sub : ∀ F, F ∈ tk1 → F ∈ tkA := by decide
def tkB : List Nat := tkA ++ dicL
def tkG : List Nat := gwF ++ cntL
theorem tkS_g {σ0 σ σ' : ga_S} (h : tkS σ0 σ) {L : List Nat} (g : fr L σ σ') (hL : tkB.all (fun F => !(L.contains F)) = true) (G : GC σ0 σ') : tkS σ0 σ' := by
  have t : ∀ F, F ∈ tkA → σ' F = σ F := fun F hF => fr_no g hL (F := F) (List.mem_append_left _ hF)
  refine ⟨fun F hF => ?_, ?_, ?_, DX_f h.2.2.2.1 (fun F hF => fr_no g hL (F := F) (List.mem_append_right _ hF)), G⟩
  · rw [t F (tk_sub F hF)]; exact h.1 F hF
  · rw [t fT_bytes (by decide)]; exact h.2.1
  · rw [t fT_size (by decide)]; exact h.2.2.1
theorem tkS_f {σ0 σ σ' : ga_S} (h : tkS σ0 σ) {L : List Nat} (g : fr L σ σ') (hL : (tkB ++ tkG).all (fun F => !(L.contains F)) = true) : tkS σ0 σ' := by
  rw [List.all_append, Bool.and_eq_true] at hL
  exact tkS_g h g hL.1 (GC_f h.2.2.2.2 g hL.2)
theorem tkS_d {σ0 σ σ' : ga_S} {K : List Int} {s n : Int} (h : tkS σ0 σ) (D : DT σ σ' K s n) : tkS σ0 σ' := by
  have g := D.1
  refine ⟨fun F hF => ?_, ?_, ?_, DX_tell h.2.2.2.1 D, GC_f h.2.2.2.2 g (by decide)⟩
  · rw [fr_no g (M := tkA) (by decide) (F := F) (tk_sub F hF)]; exact h.1 F hF
  · rw [g fT_bytes (by decide)]; exact h.2.1
  · rw [g fT_size (by decide)]; exact h.2.2.1
theorem tkT_f {τ0 τ τ' : ga_S} (h : tkT τ0 τ) {L : List Nat} (g : fr L τ τ') (hL : tkM.all (fun F => !(L.contains F)) = true) : tkT τ0 τ' := by
  intro F hF
  rw [fr_no g hL hF]; exact h F hF
theorem tkS_r (σ : ga_S) : tkS σ σ := ⟨fun _ _ => rfl, rfl, rfl, DX_r σ, GC_r σ⟩
theorem tkT_r (τ : ga_S) : tkT τ τ := fun _ _ => rfl
/-- tokens only -/
theorem tk_env {σ0 τ0 σ τ : ga_S} {f : Int} {N : Nat} (h : ENV σ0 τ0 f N ∧ TOK σ0 τ0 f N) (S : tkS σ0 σ) (T : tkT τ0 τ) : ENV σ τ f N ∧ TOK σ τ f N := by
  refine ⟨?_, ?_⟩
  · have := h.1
    unfold ENV at this ⊢
    rw [S.1 fT_kinds (by decide), T fM_token (by decide)]
    exact this
  · have := h.2
    unfold TOK byteR wT at this ⊢
    rw [S.1 fT_kinds (by decide), S.1 fT_places (by decide), S.1 fT_lengths (by decide), S.2.1, S.2.2.1, T fM_place (by decide), T fM_word (by decide), T fM_length (by decide)]
    exact this
section
variable {σ0 τ0 : ga_S} {f : Int} {N : Nat}
theorem k_spellA {σ : ga_S} (E : ENV σ0 τ0 f N ∧ TOK σ0 τ0 f N) (S : tkS σ0 σ) {a b : Int} (h : frB σ0 N a b) {d : Nat} (hd : 2 ≤ d) : ∃ σ', c_d_spellT d σ 0 a b = some (0, σ') ∧ fr spL σ σ' ∧ AT σ' (nmT σ0 a b) := by
  have ti : ∀ k, a ≤ k → k < b → tIn σ 0 k := by
    intro k h1 h2
    have t := E.2.2.1 k (by have := h.1; omega) (by have := h.2.2.1; omega)
    have := E.1.2.2.1
    have := h.2.2.1
    have := h.1
    unfold tIn
    rw [S.1 fT_places (by decide), S.1 fT_lengths (by decide), S.2.2.1]
    exact ⟨by omega, by omega, t.1, t.2.1, t.2.2.1⟩
  obtain ⟨σ', e1, e2, e3⟩ := s_d_spellT (σ := σ) (d := d) hd (v := 0) (a := a) (b := b) (Int.le_refl 0) (by rw [S.2.2.1]; exact E.2.1.1) (fun i => by rw [S.2.1]; exact E.2.1.2 i) ti h.2.1
  have ew : wsT σ 0 a b = wsT σ0 0 a b := by
    unfold wsT wT
    rw [S.1 fT_places (by decide), S.1 fT_lengths (by decide), S.2.1]
  rw [ew] at e3
  exact ⟨σ', e1, e2, e3⟩
theorem DT_pre {σ σ1 σ' : ga_S} {L : List Int} {s n : Int} (h : fr spL σ σ1) (D : DT σ1 σ' L s n) : DT σ σ' L s n := by
  obtain ⟨d0, d1, d2, d3, d4, d5, d6, d7, d8⟩ := D
  have ec : σ1 fD_count = σ fD_count := h _ (by decide)
  have ee : ∀ k, ent σ1 k = ent σ k := by
    intro k; unfold ent; rw [h fD_sizes (by decide), h fD_letters (by decide), h fD_froms (by decide)]
  rw [ec] at d2 d4 d5 d6 d7 d8
  refine ⟨fr_trans (fr_sub h (by decide)) d0, d1, d2, by rw [d3, h fD_used (by decide)], fun k k0 hk => ?_, d5, d6, d7, d8⟩
  have := d4 k k0 hk
  rw [ee, h fD_sorts (by decide), h fD_numbers (by decide), h fD_sizes (by decide)] at this
  exact this
theorem wfD_f {σ σ' : ga_S} {L : List Nat} (W : wfD σ) (g : fr L σ σ') (hL : dicL.all (fun F => !(L.contains F)) = true) : wfD σ' := (dic_c (fun F hF => fr_no g hL hF)).2.2.2 W
theorem AT_f {σ σ' : ga_S} {nm : List Int} {L : List Nat} (A : AT σ nm) (g : fr L σ σ') (hL : spL.all (fun F => !(L.contains F)) = true) : AT σ' nm := by
  have e1 : σ' fD_size = σ fD_size := fr_no g hL (F := fD_size) (by decide)
  have e2 : σ' fD_spelled = σ fD_spelled := fr_no g hL (F := fD_spelled) (by decide)
  unfold AT spl at A ⊢
  rw [e1, e2]
  exact A
/-- the component tells a name of the sentence -/
theorem k_tellA {σ : ga_S} (E : ENV σ0 τ0 f N ∧ TOK σ0 τ0 f N) (S : tkS σ0 σ) (W : wfD σ) (hc : σ fD_count 0 0 < 640) (hu : σ fD_used 0 0 + 40 ≤ 24000) {a b : Int} (h : frB σ0 N a b) (h3 : b - a ≤ 3) {d : Nat} (hd : 3 ≤ d) (s n : Int) : ∃ σ', c_r_tell d σ a b s n = some (0, σ') ∧ DT σ σ' (nmT σ0 a b) s n ∧ AT σ' (nmT σ0 a b) := by
  obtain ⟨d, rfl⟩ : ∃ e, d = e + 1 := ⟨d - 1, by omega⟩
  obtain ⟨σ1, e1, e2, e3⟩ := k_spellA E S h (d := d) (by omega)
  have l := wsT_len (σ := σ0) h.2.1
  have hl : (nmT σ0 a b).length ≤ 40 := by
    have := jn_len (wsT σ0 0 a b) (fun w hw => (wsT_W E.2 h w hw).2.2)
    show (jn (wsT σ0 0 a b)).length ≤ 40
    omega
  obtain ⟨σ', g1, g2, g3⟩ := k_tell e3 hl (wfD_f W e2 (by decide)) (by rw [e2 fD_count (by decide)]; exact hc) (by rw [e2 fD_used (by decide)]; exact hu) (d := d) (by omega) s n
  refine ⟨σ', ?_, DT_pre e2 g2, AT_f e3 g3 (by decide)⟩
  rw [e_r_tell, e1]
  simp only [Option.bind_some]
  rw [g1]
  rfl
/-- the model tells a run of the sentence -/
theorem m_tellA {τ : ga_S} (E : ENV σ0 τ0 f N ∧ TOK σ0 τ0 f N) (T : tkT τ0 τ) (hl : 0 ≤ τ fM_lexes 0 0 ∧ τ fM_lexes 0 0 < 300) {r a b : Int} (hr : RU σ0 τ0 f N r a b) (h1 : a < b) (h3 : b - a ≤ 3) {d : Nat} (hd : 3 ≤ d) (s n : Int) : ∃ τ', c_m_tellRun d τ s n r = some (0, τ') ∧ MT τ τ' (wsT σ0 0 a b) 0 s n := by
  obtain ⟨d, rfl⟩ : ∃ e, d = e + 1 := ⟨d - 1, by omega⟩
  obtain ⟨d, rfl⟩ : ∃ e, d = e + 1 := ⟨d - 1, by omega⟩
  obtain ⟨hr0, hr1, hr2, hr3⟩ := hr
  have l := wsT_len (σ := σ0) hr3.2.1
  have w := tW_of (τ' := τ) ⟨E.1.1, E.1.2.1⟩ E.2 (T _ (by decide)) hr3
  obtain ⟨w0, w1, w2⟩ := w
  have x0 := w2 0 (by omega)
  rw [show f + a + ((0 : Nat) : Int) = f + a by omega] at x0
  have cc : ∀ (x y : Int), (1 < b - a → x = pack ((wsT σ0 0 a b).getD 1 [])) → (2 < b - a → y = pack ((wsT σ0 0 a b).getD 2 [])) → ∃ τ', m_tellTokens_45 d τ (b - a) y x (τ fM_word 0 (f + a)) n s = some (0, τ') ∧ MT τ τ' (wsT σ0 0 a b) 0 s n := by
    intro x y hx hy
    obtain ⟨τ', g1, g2⟩ := m_tell hl (W := wsT σ0 0 a b) (by omega) (by omega) (a := τ fM_word 0 (f + a)) (b := x) (c := y) x0 (fun z => hx (by omega)) (fun z => hy (by omega)) (d := d) (by omega) s n
    rw [l] at g1
    refine ⟨τ', ?_, g2⟩
    rw [e_m_tellTokens_45, g1]
    rfl
  have run0 := e_m_tellRun (d + 1) τ s n r
  rw [ck_ok _ hr0, ck_ok _ hr0, T fM_runFrom (by decide), T fM_runSize (by decide), hr1, hr2, e_m_tellTokens, ck_ok _ (by omega), w32_ok (x := f + a + 1) (by omega)] at run0
  have sec : ∀ x, (1 < b - a → x = pack ((wsT σ0 0 a b).getD 1 [])) → ∃ τ', m_tellTokens_27 d τ (f + a) (b - a) x (τ fM_word 0 (f + a)) n s = some (0, τ') ∧ MT τ τ' (wsT σ0 0 a b) 0 s n := by
    intro x hx
    rw [e_m_tellTokens_27, w32_ok (x := f + a + 2) (by omega)]
    by_cases z : 2 < b - a
    · have x2 := w2 2 (by omega)
      rw [if_pos z, ck_ok _ (by omega)]
      exact cc x _ hx (fun _ => x2)
    · rw [if_neg z]
      exact cc x 0 hx (fun y => absurd y z)
  by_cases z : 1 < b - a
  · have x1 := w2 1 (by omega)
    rw [if_pos z, ck_ok _ (by omega)] at run0
    obtain ⟨τ', g1, g2⟩ := sec _ (fun _ => x1)
    have g1' : m_tellTokens_27 d τ (f + a) (b - a) (τ fM_word 0 (f + a + 1)) (τ fM_word 0 (f + a)) n s = some (0, τ') := g1
    rw [g1'] at run0
    exact ⟨τ', run0, g2⟩
  · rw [if_neg z] at run0
    obtain ⟨τ', g1, g2⟩ := sec 0 (fun y => absurd y z)
    rw [g1] at run0
    exact ⟨τ', run0, g2⟩
end

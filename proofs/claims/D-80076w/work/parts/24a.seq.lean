/-! straight steps of a sentence: take, run, needArticle, name, in a row -/
def SQ (σ σ' τ τ' : ga_S) (f : Int) (N : Nat) : Prop := PR σ' τ' f N ∧ JR σ' τ' ∧ fr rcL σ σ' ∧ fr rmL τ τ' ∧ rKeepC σ σ' ∧ rKeep τ τ' ∧ σ fR_runs 0 0 ≤ σ' fR_runs 0 0 ∧ (σ' fR_bad 0 0 = -1 → σ fR_bad 0 0 = -1 ∧ σ fR_p 0 0 ≤ σ' fR_p 0 0)
theorem SQ_refl {σ τ : ga_S} {f : Int} {N : Nat} (hP : PR σ τ f N) (hJ : JR σ τ) : SQ σ σ τ τ f N := ⟨hP, hJ, fr_refl _ _, fr_refl _ _, rKeepC_eq rfl rfl, rKeep_refl _, Int.le_refl _, fun h => ⟨h, Int.le_refl _⟩⟩
theorem SQ_trans {σ σ1 σ2 τ τ1 τ2 : ga_S} {f : Int} {N : Nat} (h : SQ σ σ1 τ τ1 f N) (g : SQ σ1 σ2 τ1 τ2 f N) : SQ σ σ2 τ τ2 f N := by
  obtain ⟨h1, h2, h3, h4, h5, h6, h7, h8⟩ := h
  obtain ⟨g1, g2, g3, g4, g5, g6, g7, g8⟩ := g
  exact ⟨g1, g2, fr_trans h3 g3, fr_trans h4 g4, rKeepC_trans h5 h7 g5, rKeep_trans h6 g6, Int.le_trans h7 g7, fun z => ⟨(h8 (g8 z).1).1, Int.le_trans (h8 (g8 z).1).2 (g8 z).2⟩⟩
theorem SQ_E {σ σ' τ τ' : ga_S} {f : Int} {N : Nat} (h : SQ σ σ' τ τ' f N) (hE : ENV σ τ f N) : ENV σ' τ' f N := ENV_c hE (h.2.2.1 _ (by decide)) (h.2.2.2.1 _ (by decide))
/-- a run of the component is a run of the model -/
def rr (σ τ : ga_S) (f i r : Int) : Prop := rnR σ τ f r (σ fR_runFrom 0 i) (σ fR_runTo 0 i)
theorem rr_keep {σ σ' τ τ' : ga_S} {f i r : Int} (h : rr σ τ f i r) (hi : i < σ fR_runs 0 0) (hk : rKeepC σ σ') (hm : rKeep τ τ') (hs : σ' fT_kinds = σ fT_kinds) : rr σ' τ' f i r := by
  unfold rr at h ⊢
  have := hk i hi
  rw [this.1, this.2]
  exact rnR_keep h hm hs
theorem rr_Q {σ σ' τ τ' : ga_S} {f i r : Int} {N : Nat} (h : rr σ τ f i r) (hi : i < σ fR_runs 0 0) (Q : SQ σ σ' τ τ' f N) : rr σ' τ' f i r := rr_keep h hi Q.2.2.2.2.1 Q.2.2.2.2.2.1 (Q.2.2.1 _ (by decide))
theorem S_take {σ τ : ga_S} {f : Int} {N : Nat} (hE : ENV σ τ f N) (h : PR σ τ f N) (hJ : JR σ τ) {d : Nat} (hd : 2 ≤ d) {c m : Int} (hm : m = cdM c) (hc : 0 ≤ c ∧ c < 64) (h3 : c ≠ 3) (h8 : c ≠ 8) : ∃ v σ' τ', c_r_take d σ c = some (v, σ') ∧ c_m_take d τ m = some (0, τ') ∧ SQ σ σ' τ τ' f N ∧ fr pcL σ σ' ∧ fr pmL τ τ' ∧ (σ' fR_bad 0 0 = -1 → σ fR_bad 0 0 = -1 ∧ σ fT_kinds 0 (σ fR_p 0 0) = c ∧ σ' fR_p 0 0 = σ fR_p 0 0 + 1) := by
  obtain ⟨v, σ', τ', e1, e2, Q, e4, e5, e6⟩ := U_take hE h hJ hd hm hc h3 h8 0
  exact ⟨v, σ', τ', e1, e2, ⟨Q.1, Q.2.1, fr_pc e4, fr_pm e5, Q.2.2.2.2.2.1, Q.2.2.2.2.2.2.1, Q.2.2.2.2.1, fun z => ⟨(e6 z).1, by have := (e6 z).2.2; omega⟩⟩, e4, e5, e6⟩
/-- what a run leaves -/
def rGo (σ σ' τ τ' : ga_S) (f r : Int) : Prop := σ' fR_bad 0 0 = -1 → r = τ fM_runs 0 0 ∧ σ' fR_runs 0 0 = σ fR_runs 0 0 + 1 ∧ τ' fM_runs 0 0 = τ fM_runs 0 0 + 1 ∧ rr σ' τ' f (σ fR_runs 0 0) (τ fM_runs 0 0) ∧ σ' fR_p 0 0 = σ' fR_runTo 0 (σ fR_runs 0 0) ∧ σ fR_p 0 0 ≤ σ' fR_runFrom 0 (σ fR_runs 0 0)
theorem rOk_Go {σ σ' τ τ' : ga_S} {f : Int} {N : Nat} (hE : ENV σ τ f N) {a r : Int} (ha : 0 ≤ a) (haN : a ≤ N) (hr : 0 ≤ τ fM_runs 0 0) (kk : σ' fT_kinds = σ fT_kinds) (h : rOk σ σ' τ τ' f N a r) (hpa : σ fR_p 0 0 ≤ a) : rGo σ σ' τ τ' f r := by
  obtain ⟨b1, b2, b3, b4, b5, b6, b7, b8, b9, b10, b11⟩ := h
  intro _
  have F := frE_r hE ha haN
  have h8 := b8 (σ fR_runs 0 0)
  have h9 := b9 (σ fR_runs 0 0)
  have h10 := b10 (τ fM_runs 0 0)
  have h11 := b11 (τ fM_runs 0 0)
  rw [if_pos rfl] at h8 h9 h10 h11
  refine ⟨b2, b6, b7, ?_, h9.symm, by rw [h8]; exact hpa⟩
  unfold rr rnR
  rw [h8, h9, h10, h11]
  refine ⟨hr, by omega, rfl, rfl, b3, ⟨ha, ENV_st hE kk (by rw [b4]; omega)⟩, fun q h1 h2 => ?_⟩
  rw [kk]
  rw [b4] at h2
  exact F.2.2.2 q h1 h2
theorem S_run {σ τ : ga_S} {f : Int} {N : Nat} (hE : ENV σ τ f N) (h : PR σ τ f N) (hJ : JR σ τ) {d : Nat} (hd : 2 ≤ d) : ∃ r σ' τ', c_r_run d σ = some (0, σ') ∧ c_m_run d τ = some (r, τ') ∧ SQ σ σ' τ τ' f N ∧ rGo σ σ' τ τ' f r := by
  have hB := JR_b hJ
  have hR := h.1
  obtain ⟨r, σ', τ', e1, e2, e3, e4, e5, e6⟩ := P_run hE h hd hB.1 hB.2
  have kk : σ' fT_kinds = σ fT_kinds := e4 _ (by decide)
  rcases e6 with b | ⟨b0, b⟩
  · exact ⟨r, σ', τ', e1, e2, ⟨e3, JR_bad hJ (by rw [b.2.1]) (by rw [b.2.2.1]) b.1, e4, e5, rBad_keepC b, rBad_keep b, by rw [b.2.1]; exact Int.le_refl _, fun z => absurd z b.1⟩, fun z => absurd z b.1⟩
  · have ok := e3.2.resolve_right (fun z => by have := b.1; omega)
    have J2 : JR σ' τ' := JR_run hJ hE kk (a := σ fR_p 0 0) (r := r) (fun _ => ⟨Int.le_refl _, Or.inl rfl⟩) ⟨b0, b⟩ ok.2.2.2.1 (by omega)
    exact ⟨r, σ', τ', e1, e2, ⟨e3, J2, e4, e5, rOk_keepC b, rOk_keep b, by have := b.2.2.2.2.2.1; omega, fun _ => ⟨b0, by have := b.2.2.1; omega⟩⟩, rOk_Go hE (by omega) (by omega) hB.2.1 kk b (by omega)⟩
theorem S_name {σ τ : ga_S} {f : Int} {N : Nat} (hE : ENV σ τ f N) (h : PR σ τ f N) (hJ : JR σ τ) {d : Nat} (hd : 4 ≤ d) : ∃ r σ' τ', c_r_name d σ = some (0, σ') ∧ c_m_name0 d τ = some (r, τ') ∧ SQ σ σ' τ τ' f N ∧ rGo σ σ' τ τ' f r := by
  have hB := JR_b hJ
  have hR := h.1
  obtain ⟨r, σ', τ', e1, e2, e3, e4, e5, e6⟩ := P_name hE h hd hB.1 hB.2
  have kk : σ' fT_kinds = σ fT_kinds := e4 _ (by decide)
  rcases e6 with b | ⟨b0, b⟩
  · exact ⟨r, σ', τ', e1, e2, ⟨e3, JR_bad hJ (by rw [b.2.1]) (by rw [b.2.2.1]) b.1, e4, e5, rBad_keepC b, rBad_keep b, by rw [b.2.1]; exact Int.le_refl _, fun z => absurd z b.1⟩, fun z => absurd z b.1⟩
  · have ok := e3.2.resolve_right (fun z => by have := b.1; omega)
    have i01 : (0 : Int) ≤ (if artAt σ = true then 1 else 0) ∧ (if artAt σ = true then (1 : Int) else 0) ≤ 1 := by split <;> omega
    obtain ⟨a, ea⟩ : ∃ a, a = σ fR_p 0 0 + (if artAt σ = true then 1 else 0) := ⟨_, rfl⟩
    rw [← ea] at b
    have := b.2.2.1
    have J2 : JR σ' τ' := JR_run hJ hE kk (a := a) (r := r) (fun _ => ⟨by omega, by omega⟩) ⟨b0, b⟩ ok.2.2.2.1 (by omega)
    exact ⟨r, σ', τ', e1, e2, ⟨e3, J2, e4, e5, rOk_keepC b, rOk_keep b, by have := b.2.2.2.2.2.1; omega, fun _ => ⟨b0, by omega⟩⟩, rOk_Go hE (by omega) (by omega) hB.2.1 kk b (by omega)⟩
theorem S_art {σ τ : ga_S} {f : Int} {N : Nat} (hE : ENV σ τ f N) (h : PR σ τ f N) (hJ : JR σ τ) {d : Nat} (hd : 3 ≤ d) : ∃ σ' τ', c_r_needArticle d σ = some (0, σ') ∧ c_m_art d τ = some (0, τ') ∧ SQ σ σ' τ τ' f N ∧ fr pcL σ σ' ∧ fr pmL τ τ' := by
  obtain ⟨σ', τ', e1, e2, e3, e4, e5⟩ := P_needArt hE h hd
  refine ⟨σ', τ', e1, e2, ?_, e4, e5⟩
  have key : σ' fR_bad 0 0 = -1 → σ fR_bad 0 0 = -1 ∧ (σ' fR_p 0 0 = σ fR_p 0 0 ∨ σ fR_p 0 0 < σ' fR_p 0 0) := by
    intro z
    by_cases cb : σ fR_bad 0 0 = -1
    · refine ⟨cb, ?_⟩
      have ok := PR_ok h cb
      obtain ⟨d, rfl⟩ : ∃ e, d = e + 1 := ⟨d - 1, by omega⟩
      have K := (hE.2.2.2.1 _ ok.2.1 ok.2.2.1)
      rw [e_r_needArticle, if_pos cb, ck_ok _ (by have := hE.2.1; have := hE.1; omega), nn_ok _ (by omega), s_k_isArticle (by omega)] at e1
      simp only [Option.bind_some] at e1
      by_cases ca : 9 ≤ σ fT_kinds 0 (σ fR_p 0 0) ∧ σ fT_kinds 0 (σ fR_p 0 0) ≤ 12
      · rw [decide_eq_true ca, if_neg b2i_n, w32_ok (by have := hE.2.1; have := hE.1; omega)] at e1
        injection e1 with e1
        injection e1 with _ e1
        rw [← e1, up_eq]
        omega
      · rw [decide_eq_false ca, if_pos b2i_f, e_r_needArticle_26, s_r_wrong (by omega), if_pos cb] at e1
        simp only [Option.bind_some] at e1
        injection e1 with e1
        injection e1 with _ e1
        rw [← e1, up_eq] at z
        omega
    · have := cb_needArt (σ := σ) (d := d) (by omega) cb
      rw [this] at e1
      injection e1 with e1
      injection e1 with _ e1
      rw [← e1] at z
      exact absurd z cb
  have Q := PR_Q (j := 0) e3 hJ e4 e5 key
  exact ⟨e3, Q.2.1, fr_pc e4, fr_pm e5, Q.2.2.2.2.2.1, Q.2.2.2.2.2.2.1, by rw [Q.2.2.2.2.1]; exact Int.le_refl _, fun z => ⟨(key z).1, by have := (key z).2; omega⟩⟩
/-- runs one behind the other -/
def oC (σ : ga_S) : Prop := ∀ i, 0 ≤ i → i + 1 < σ fR_runs 0 0 → σ fR_runTo 0 i ≤ σ fR_runFrom 0 (i + 1)
def OR (σ : ga_S) : Prop := oC σ ∧ ∀ i, 0 ≤ i → i < σ fR_runs 0 0 → σ fR_runTo 0 i ≤ σ fR_p 0 0
theorem OR_0 {σ : ga_S} (h : σ fR_runs 0 0 = 0) : OR σ := ⟨fun i h1 h2 => by omega, fun i h1 h2 => by omega⟩
theorem OR_mv {σ σ' : ga_S} (h : OR σ) (hr : σ' fR_runs 0 0 = σ fR_runs 0 0) (hk : rKeepC σ σ') (hp : σ fR_p 0 0 ≤ σ' fR_p 0 0) : OR σ' := by
  refine ⟨fun i h1 h2 => ?_, fun i h1 h2 => ?_⟩
  · rw [hr] at h2
    rw [(hk i (by omega)).2, (hk (i + 1) h2).1]
    exact h.1 i h1 h2
  · rw [hr] at h2
    rw [(hk i h2).2]
    have := h.2 i h1 h2
    omega
theorem OR_run {σ σ' τ τ' : ga_S} {f r : Int} {N : Nat} (h : OR σ) (Q : SQ σ σ' τ τ' f N) (G : rGo σ σ' τ τ' f r) (h0 : 0 ≤ σ fR_runs 0 0) (hb : σ' fR_bad 0 0 = -1) : OR σ' := by
  obtain ⟨G1, G2, G3, G4, G5, G6⟩ := G hb
  have hk := Q.2.2.2.2.1
  have hp := (Q.2.2.2.2.2.2.2 hb).2
  have lt := G4.2.2.2.2.1
  refine ⟨fun i h1 h2 => ?_, fun i h1 h2 => ?_⟩
  · rw [(hk i (by omega)).2]
    have a := h.2 i h1 (by omega)
    by_cases c : i + 1 = σ fR_runs 0 0
    · rw [c]; omega
    · rw [(hk (i + 1) (by omega)).1]
      exact h.1 i h1 (by omega)
  · by_cases c : i = σ fR_runs 0 0
    · rw [c]; omega
    · rw [(hk i (by omega)).2]
      have a := h.2 i h1 (by omega)
      omega
/-- a row of steps: 0 c take c, 1 run, 2 needArticle, 3 name -/
noncomputable def cSeq (d : Nat) : List (Nat × Int) → ga_S → (ga_S → Option ga_R) → Option ga_R
  | [], σ, k => k σ
  | (0, c) :: l, σ, k => (c_r_take d σ c).bind fun q => cSeq d l q.2 k
  | (1, _) :: l, σ, k => (c_r_run d σ).bind fun q => cSeq d l q.2 k
  | (2, _) :: l, σ, k => (c_r_needArticle d σ).bind fun q => cSeq d l q.2 k
  | (_ + 3, _) :: l, σ, k => (c_r_name d σ).bind fun q => cSeq d l q.2 k
noncomputable def mSeq (d : Nat) : List (Nat × Int) → ga_S → (ga_S → Option ga_R) → Option ga_R
  | [], σ, k => k σ
  | (0, c) :: l, σ, k => (c_m_take d σ (cdM c)).bind fun q => mSeq d l q.2 k
  | (1, _) :: l, σ, k => (c_m_run d σ).bind fun q => mSeq d l q.2 k
  | (2, _) :: l, σ, k => (c_m_art d σ).bind fun q => mSeq d l q.2 k
  | (_ + 3, _) :: l, σ, k => (c_m_name0 d σ).bind fun q => mSeq d l q.2 k
/-- how many runs it makes -/
def nSeq : List (Nat × Int) → Int
  | [] => 0
  | (0, _) :: l => nSeq l
  | (1, _) :: l => nSeq l + 1
  | (2, _) :: l => nSeq l
  | (_ + 3, _) :: l => nSeq l + 1
def okSeq (l : List (Nat × Int)) : Bool := l.all fun x => decide (0 ≤ x.2) && decide (x.2 < 64) && decide (x.2 ≠ 3) && decide (x.2 ≠ 8)
def sqX (σ σ' τ τ' : ga_S) (f : Int) (N : Nat) (n : Int) : Prop := SQ σ σ' τ τ' f N ∧ (σ' fR_bad 0 0 = -1 → σ' fR_runs 0 0 = σ fR_runs 0 0 + n ∧ τ' fM_runs 0 0 = τ fM_runs 0 0 + n ∧ (OR σ → OR σ') ∧ ∀ i, 0 ≤ i → i < n → rr σ' τ' f (σ fR_runs 0 0 + i) (τ fM_runs 0 0 + i))
theorem nSeq_0 : ∀ l, 0 ≤ nSeq l
  | [] => by decide
  | (0, _) :: l => nSeq_0 l
  | (1, _) :: l => by have := nSeq_0 l; show 0 ≤ nSeq l + 1; omega
  | (2, _) :: l => nSeq_0 l
  | (_ + 3, _) :: l => by have := nSeq_0 l; show 0 ≤ nSeq l + 1; omega
theorem sqX_0 {σ σ1 σ2 τ τ1 τ2 : ga_S} {f : Int} {N : Nat} {n : Int} (h : SQ σ σ1 τ τ1 f N) (hr : fr pcL σ σ1) (hm : fr pmL τ τ1) (g : sqX σ1 σ2 τ1 τ2 f N n) : sqX σ σ2 τ τ2 f N n := by
  refine ⟨SQ_trans h g.1, fun z => ?_⟩
  have := g.2 z
  rw [hr _ (by decide), hm _ (by decide)] at this
  exact ⟨this.1, this.2.1, fun o => this.2.2.1 (OR_mv o (by rw [hr _ (by decide)]) h.2.2.2.2.1 (h.2.2.2.2.2.2.2 (g.1.2.2.2.2.2.2.2 z).1).2), this.2.2.2⟩
theorem sqX_1 {σ σ1 σ2 τ τ1 τ2 : ga_S} {f r : Int} {N : Nat} {n : Int} (hJ : JR σ τ) (h : SQ σ σ1 τ τ1 f N) (hr : rGo σ σ1 τ τ1 f r) (g : sqX σ1 σ2 τ1 τ2 f N n) (hn : 0 ≤ n) : sqX σ σ2 τ τ2 f N (n + 1) := by
  refine ⟨SQ_trans h g.1, fun z => ?_⟩
  obtain ⟨a1, a2, a0, a3⟩ := g.2 z
  obtain ⟨b1, b2, b3, b4, _⟩ := hr (g.1.2.2.2.2.2.2.2 z).1
  rw [b2] at a1 a3
  rw [b3] at a2 a3
  refine ⟨by omega, by omega, fun o => a0 (OR_run o h hr hJ.1 (g.1.2.2.2.2.2.2.2 z).1), fun i h1 h2 => ?_⟩
  by_cases ci : i = 0
  · rw [ci, Int.add_zero, Int.add_zero]
    exact rr_Q b4 (by omega) g.1
  · have := a3 (i - 1) (by omega) (by omega)
    rw [show σ fR_runs 0 0 + 1 + (i - 1) = σ fR_runs 0 0 + i from by omega, show τ fM_runs 0 0 + 1 + (i - 1) = τ fM_runs 0 0 + i from by omega] at this
    exact this
theorem SEQ {f : Int} {N : Nat} {d e : Nat} (hd : 4 ≤ d) (he : 4 ≤ e) : ∀ (l : List (Nat × Int)), okSeq l = true → ∀ (σ τ : ga_S), ENV σ τ f N → PR σ τ f N → JR σ τ → ∃ σ' τ', (∀ k, cSeq d l σ k = k σ') ∧ (∀ k, mSeq e l τ k = k τ') ∧ sqX σ σ' τ τ' f N (nSeq l) := by
  intro l
  induction l with
  | nil =>
    intro _ σ τ _ hP hJ
    exact ⟨σ, τ, fun _ => rfl, fun _ => rfl, SQ_refl hP hJ, fun _ => ⟨by show _ = _ + (0 : Int); omega, by show _ = _ + (0 : Int); omega, fun o => o, fun i h1 h2 => by have : i < 0 := h2; omega⟩⟩
  | cons x l ih =>
    intro hv σ τ hE hP hJ
    unfold okSeq at hv
    rw [List.all_cons, Bool.and_eq_true] at hv
    have hx := hv.1
    have ih' := ih hv.2
    obtain ⟨o, c⟩ := x
    match o with
    | 0 =>
      simp only [Bool.and_eq_true, decide_eq_true_eq] at hx
      obtain ⟨v, σ1, τ1, e1, e2, Q, e4, e5, _⟩ := S_take hE hP hJ (d := 4) (by omega) (c := c) rfl ⟨hx.1.1.1, hx.1.1.2⟩ hx.1.2 hx.2
      obtain ⟨σ2, τ2, g1, g2, g3⟩ := ih' σ1 τ1 (SQ_E Q hE) Q.1 Q.2.1
      refine ⟨σ2, τ2, fun k => ?_, fun k => ?_, sqX_0 Q e4 e5 g3⟩
      · show ((c_r_take d σ c).bind fun q => cSeq d l q.2 k) = _
        rw [show c_r_take d σ c = some (v, σ1) from am_mono e1 hd]; exact g1 k
      · show ((c_m_take e τ (cdM c)).bind fun q => mSeq e l q.2 k) = _
        rw [show c_m_take e τ (cdM c) = some (0, τ1) from am_mono e2 he]; exact g2 k
    | 1 =>
      obtain ⟨v, σ1, τ1, e1, e2, Q, e4⟩ := S_run hE hP hJ (d := 4) (by omega)
      obtain ⟨σ2, τ2, g1, g2, g3⟩ := ih' σ1 τ1 (SQ_E Q hE) Q.1 Q.2.1
      refine ⟨σ2, τ2, fun k => ?_, fun k => ?_, sqX_1 hJ Q e4 g3 (nSeq_0 l)⟩
      · show ((c_r_run d σ).bind fun q => cSeq d l q.2 k) = _
        rw [show c_r_run d σ = some (0, σ1) from am_mono e1 hd]; exact g1 k
      · show ((c_m_run e τ).bind fun q => mSeq e l q.2 k) = _
        rw [show c_m_run e τ = some (v, τ1) from am_mono e2 he]; exact g2 k
    | 2 =>
      obtain ⟨σ1, τ1, e1, e2, Q, e4, e5⟩ := S_art hE hP hJ (d := 4) (by omega)
      obtain ⟨σ2, τ2, g1, g2, g3⟩ := ih' σ1 τ1 (SQ_E Q hE) Q.1 Q.2.1
      refine ⟨σ2, τ2, fun k => ?_, fun k => ?_, sqX_0 Q e4 e5 g3⟩
      · show ((c_r_needArticle d σ).bind fun q => cSeq d l q.2 k) = _
        rw [show c_r_needArticle d σ = some (0, σ1) from am_mono e1 hd]; exact g1 k
      · show ((c_m_art e τ).bind fun q => mSeq e l q.2 k) = _
        rw [show c_m_art e τ = some (0, τ1) from am_mono e2 he]; exact g2 k
    | (n + 3) =>
      obtain ⟨v, σ1, τ1, e1, e2, Q, e4⟩ := S_name hE hP hJ (d := 4) (by omega)
      obtain ⟨σ2, τ2, g1, g2, g3⟩ := ih' σ1 τ1 (SQ_E Q hE) Q.1 Q.2.1
      refine ⟨σ2, τ2, fun k => ?_, fun k => ?_, sqX_1 hJ Q e4 g3 (nSeq_0 l)⟩
      · show ((c_r_name d σ).bind fun q => cSeq d l q.2 k) = _
        rw [show c_r_name d σ = some (0, σ1) from am_mono e1 hd]; exact g1 k
      · show ((c_m_name0 e τ).bind fun q => mSeq e l q.2 k) = _
        rw [show c_m_name0 e τ = some (v, τ1) from am_mono e2 he]; exact g2 k

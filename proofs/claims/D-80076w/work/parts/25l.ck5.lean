/-! checks of the sorts 10, 11 -/
section
variable {σ τ : ga_S} {f : Int} {N : Nat}
theorem m_list85 {τ1 : ga_S} {d : Nat} {v1 mo n : Int} (hn : n ≤ 2501) (hl : τ1 fM_listFrom 0 0 = 0) (hz : τ1 fM_listSize 0 0 = n) {base : Int} (hb : base ≤ 24) : ∀ τ nM k, fr mbN τ1 τ → 0 ≤ nM → nM ≤ base + k → 0 ≤ k → k < n → ∀ g : Bool, c_m_isNew d τ k = some (b2i g, τ) → m_askKinds_85 d τ v1 nM mo k = (c_m_mustBeNew d τ k nM mo).bind fun q => m_askKinds_85 d q.2 v1 (nM + b2i g) mo (k + 1) := by
  intro τ nM k f1 n0 n1 h0 h1 g hg
  have x1 : τ fM_listFrom 0 0 = 0 := by rw [f1 _ (by decide)]; exact hl
  have x2 : τ fM_listSize 0 0 = n := by rw [f1 _ (by decide)]; exact hz
  rw [e_m_askKinds_85, x1, x2, if_pos h1, Int.zero_add, w32_ok (by omega), hg]
  simp only [Option.bind_some]
  rw [x1, Int.zero_add, w32_ok (by omega)]
  cases g with
  | true =>
    rw [b2i_t]
    congr 1
    funext q
    rw [if_neg (by decide), e_m_askKinds_131, w32_ok (x := nM + 1) (by omega), w32_ok (x := k + 1) (by omega)]
  | false =>
    rw [b2i_f]
    congr 1
    funext q
    rw [if_pos rfl, e_m_askKinds_131, w32_ok (x := nM + 0) (by omega), w32_ok (x := k + 1) (by omega)]
theorem c_454 {d : Nat} (hn : σ fR_names 0 0 ≤ 2501) {base mo : Int} (hb : 0 ≤ base ∧ base ≤ 24) (hv : (σ fR_isValue 0 0 = 0 ∧ base = σ fW_kinds 0 0 ∧ mo = 16) ∨ (σ fR_isValue 0 0 = 1 ∧ base = σ fW_types 0 0 ∧ mo = 8)) : ∀ ρ k, fr nwL (k0 σ) ρ → 0 ≤ k → k < σ fR_names 0 0 → r_check_454 d ρ k = (c_r_isNew d ρ (σ fR_nameFrom 0 k) (σ fR_nameTo 0 k) (base + k) mo).bind fun q => r_check_454 d q.2 (k + 1) := by
  intro ρ k f1 h0 h1
  have F : ∀ G, G ∉ nwL → G ∉ k0L → ρ G = σ G := fun G a b => (f1 G a).trans (k0_fr σ G b)
  rw [e_r_check_454, F fR_names (by decide) (by decide), if_pos h1, ck_ok _ (by omega), ck_ok _ (by omega), F fR_isValue (by decide) (by decide), F fR_nameFrom (by decide) (by decide), F fR_nameTo (by decide) (by decide), F fW_kinds (by decide) (by decide), F fW_types (by decide) (by decide)]
  rcases hv with ⟨v1, v2, v3⟩ | ⟨v1, v2, v3⟩
  · rw [if_pos v1, e_r_check_499, F fR_isValue (by decide) (by decide), if_pos v1, e_r_check_515, ← v2, ← v3, w32_ok (x := base + k) (by omega)]
    congr 1
    funext q
    rw [w32_ok (x := k + 1) (by omega)]
  · rw [if_neg (by omega), e_r_check_499, F fR_isValue (by decide) (by decide), if_neg (by omega), e_r_check_515, ← v2, ← v3, w32_ok (x := base + k) (by omega)]
    congr 1
    funext q
    rw [w32_ok (x := k + 1) (by omega)]
theorem c_572 {d : Nat} (hn : σ fR_names 0 0 ≤ 2501) (hb : 0 ≤ σ fW_actions 0 0 ∧ σ fW_actions 0 0 ≤ 24) : ∀ ρ k, fr nwL (k0 σ) ρ → 0 ≤ k → k < σ fR_names 0 0 → r_check_572 d ρ k = (c_r_isNew d ρ (σ fR_nameFrom 0 k) (σ fR_nameTo 0 k) (σ fW_actions 0 0 + k) 12).bind fun q => r_check_572 d q.2 (k + 1) := by
  intro ρ k f1 h0 h1
  have F : ∀ G, G ∉ nwL → G ∉ k0L → ρ G = σ G := fun G a b => (f1 G a).trans (k0_fr σ G b)
  rw [e_r_check_572, F fR_names (by decide) (by decide), if_pos h1, ck_ok _ (by omega), ck_ok _ (by omega), F fR_nameFrom (by decide) (by decide), F fR_nameTo (by decide) (by decide), F fW_actions (by decide) (by decide), w32_ok (x := σ fW_actions 0 0 + k) (by omega)]
  congr 1
  funext q
  rw [w32_ok (x := k + 1) (by omega)]
/-- all names of a list are new, and there is room -/
def allN (σ : ga_S) (base mo : Int) : Prop := ∀ j, 0 ≤ j → j < σ fR_names 0 0 → nB σ (wN σ j) ((rg 0 j).map (wN σ)) = true ∧ base + j < mo
theorem ck_10 (E : E0 σ τ f N) (hf : σ fR_fault 0 0 = 0) (hm : 2 * τ fM_runs 0 0 ≤ 5001) (hs : σ fR_sort 0 0 = 10 ∨ σ fR_sort 0 0 = 11) (ht : τ fM_sort 0 0 = σ fR_sort 0 0) (hn : ∀ k, 0 ≤ k → k < σ fR_names 0 0 → nn σ τ f k k) (ho : oN σ) (hn1 : 1 ≤ σ fR_names 0 0) (hl : τ fM_listFrom 0 0 = 0 ∧ τ fM_listSize 0 0 = σ fR_names 0 0)
    (hw : (σ fR_sort 0 0 = 10 ∧ σ fR_isValue 0 0 = 1 ∧ τ fM_what 0 0 = -2 ∧ σ fR_runs 0 0 = 0) ∨ ((σ fR_sort 0 0 = 10 → σ fR_isValue 0 0 = 0) ∧ ((τ fM_what 0 0 = -1 ∧ σ fR_runs 0 0 = 0) ∨ (0 ≤ τ fM_what 0 0 ∧ σ fR_runs 0 0 = 1 ∧ rr σ τ f 0 (τ fM_what 0 0))))) {d : Nat} (hd : 8 ≤ d) (first : Int) : ckX σ τ (c_r_check d σ) (c_m_asked d τ first) (fun σ' _ => (σ fR_sort 0 0 = 10 → allN σ (if σ fR_isValue 0 0 = 0 then σ fW_kinds 0 0 else σ fW_types 0 0) (if σ fR_isValue 0 0 = 0 then 16 else 8)) ∧ (σ fR_sort 0 0 = 11 → allN σ (σ fW_actions 0 0) 12) ∧ ((σ fR_sort 0 0 = 10 ∧ σ fR_isValue 0 0 = 1 ∧ σ' fR_kind0 0 0 = -1) ∨ (σ fR_runs 0 0 = 0 ∧ σ' fR_kind0 0 0 = (if σ fR_sort 0 0 = 10 then 0 else -1)) ∨ (σ fR_runs 0 0 = 1 ∧ σ' fR_kind0 0 0 = dN σ (nR σ 0) 0 ∧ dN σ (nR σ 0) 0 ≠ -1))) := by
  obtain ⟨d, rfl⟩ : ∃ e, d = e + 1 := ⟨d - 1, by omega⟩
  obtain ⟨e, rfl⟩ : ∃ e, d = e + 1 := ⟨d - 1, by omega⟩
  have hL := LST_n E hm hn ho
  have hn25 := hL.1
  have wk := e0_k E
  have wt := e0_t E
  have wc := e0_c E
  have k16 := wk.1.1
  obtain ⟨base, eb⟩ : ∃ x : Int, x = (if σ fR_sort 0 0 = 10 then (if σ fR_isValue 0 0 = 0 then σ fW_kinds 0 0 else σ fW_types 0 0) else σ fW_actions 0 0) := ⟨_, rfl⟩
  obtain ⟨mo, em⟩ : ∃ x : Int, x = (if σ fR_sort 0 0 = 10 then (if σ fR_isValue 0 0 = 0 then 16 else 8) else 12) := ⟨_, rfl⟩
  obtain ⟨vt, ev⟩ : ∃ x : Int, x = (if σ fR_sort 0 0 = 10 ∧ τ fM_what 0 0 = -2 then 1 else 0) := ⟨_, rfl⟩
  obtain ⟨vk, evk⟩ : ∃ x : Int, x = σ fR_isValue 0 0 := ⟨_, rfl⟩
  have hb : 0 ≤ base ∧ base ≤ 24 := by
    have w5 := wk.2.1
    have wt1 := wt.1
    have wt2 := wt.2.1
    have wc1 := wc.1
    have wc2 := wc.2.1
    by_cases h : σ fR_sort 0 0 = 10
    · rw [if_pos h] at eb
      by_cases h' : σ fR_isValue 0 0 = 0
      · rw [if_pos h'] at eb; omega
      · rw [if_neg h'] at eb; omega
    · rw [if_neg h] at eb; omega
  -- how both loops begin
  have beginC : c_r_check (e + 1 + 1) σ = (if σ fR_sort 0 0 = 10 then r_check_454 (e + 1) (k0 σ) 0 else r_check_572 (e + 1) (k0 σ) 0) := by
    rcases hs with h | h
    · rw [e_r_check, h]
      iterate 10 rw [if_neg (by decide)]
      rw [if_pos rfl, if_pos rfl]; rfl
    · rw [e_r_check, h]
      iterate 11 rw [if_neg (by decide)]
      rw [if_pos rfl, if_neg (by decide)]; rfl
  have A0 : ∀ G, G ∉ a0L → (a0 τ) G = τ G := fun G h => a0_fr τ G h
  have beginM : c_m_askKinds (e + 1) (a0 τ) = m_askKinds_85 e (a0 τ) vt base mo 0 := by
    have s85 : m_askKinds_23 e (a0 τ) vt = m_askKinds_85 e (a0 τ) vt base mo 0 := by
      rw [e_m_askKinds_23, A0 fM_sort (by decide), A0 fM_actions (by decide), A0 fM_kinds (by decide), A0 fM_types (by decide), wc.2.2.1, wk.2.2.1, wt.2.2.1, ht]
      rcases hs with h | h
      · rw [h, if_neg (by decide)]
        rw [h] at eb em ev
        rw [if_pos rfl] at eb em
        rcases hw with ⟨_, w2, w3, _⟩ | ⟨w2, w3⟩
        · rw [if_pos ⟨rfl, w3⟩] at ev
          rw [if_neg (by omega)] at eb em
          rw [ev, if_neg (by decide), e_m_askKinds_55, A0 fM_sort (by decide), ht, h, if_neg (by decide), if_neg (by decide), e_m_askKinds_81, ← eb, ← em]
        · have w2' := w2 h
          rw [if_neg (fun z => by have := z.2; rcases w3 with w3 | w3 <;> omega)] at ev
          rw [if_pos w2'] at eb em
          rw [ev, if_pos rfl, e_m_askKinds_55, A0 fM_sort (by decide), ht, h, if_neg (by decide), if_pos rfl, e_m_askKinds_81, ← eb, ← em]
      · rw [h, if_pos rfl, e_m_askKinds_55, A0 fM_sort (by decide), ht, h, if_pos rfl, e_m_askKinds_81]
        rw [h] at eb em
        rw [if_neg (by decide)] at eb em
        rw [← eb, ← em]
    rw [e_m_askKinds, A0 fM_sort (by decide), A0 fM_what (by decide), ht]
    by_cases h10 : σ fR_sort 0 0 = 10
    · rw [if_pos h10]
      by_cases h2 : τ fM_what 0 0 = -2
      · rw [if_pos ⟨h10, h2⟩] at ev
        rw [if_pos h2, ← ev]; exact s85
      · rw [if_neg (fun z => h2 z.2)] at ev
        rw [if_neg h2, e_m_askKinds_22]; rw [ev] at s85 ⊢; exact s85
    · rw [if_neg (fun z => h10 z.1)] at ev
      rw [if_neg h10, e_m_askKinds_22]; rw [ev] at s85 ⊢; exact s85
  -- the loops
  have loop : ∃ σ2 τ2 c nM, c_r_check (e + 1 + 1) σ = (if σ fR_sort 0 0 = 10 then r_check_454 (e + 1) σ2 (σ fR_names 0 0) else r_check_572 (e + 1) σ2 (σ fR_names 0 0)) ∧ c_m_askKinds (e + 1) (a0 τ) = m_askKinds_85 e τ2 vt nM mo (σ fR_names 0 0) ∧ fr nwL (k0 σ) σ2 ∧ fr mbN (a0 τ) τ2 ∧ LSq σ τ f N (fun k => σ fR_nameFrom 0 k) (fun k => σ fR_nameTo 0 k) base mo σ2 τ2 c (σ fR_names 0 0) nM := by
    rw [beginC, beginM]
    have L0 := LS_0 (σ0 := σ) (τ0 := τ) (f := f) (N := N) hf (A := fun k => σ fR_nameFrom 0 k) (B := fun k => σ fR_nameTo 0 k) (base := base) (mo := mo) hb.1 (fr_refl _ (k0 σ)) (fr_refl _ (a0 τ))
    have M85 := m_list85 (τ1 := a0 τ) (d := e) (v1 := vt) (mo := mo) (n := σ fR_names 0 0) hn25 (by rw [A0 _ (by decide)]; exact hl.1) (by rw [A0 _ (by decide)]; exact hl.2) (base := base) hb.2
    by_cases h10 : σ fR_sort 0 0 = 10
    · rw [if_pos h10] at eb em
      obtain ⟨σ2, τ2, c, nM, x1, x2, x3, x4, x5⟩ := LS_loop E hL (base := base) (mo := mo) (d := e + 1) (d' := e) (by omega) (by omega) (σ1 := k0 σ) (τ1 := a0 τ) (Lc := fun ρ k => r_check_454 (e + 1) ρ k) (Lm := fun ρ nM k => m_askKinds_85 e ρ vt nM mo k) (c_454 hn25 hb (by
        rcases hw with ⟨_, w2, _⟩ | ⟨w2, _⟩
        · right; rw [if_neg (by omega)] at eb em; exact ⟨w2, eb, em⟩
        · left; rw [if_pos (w2 h10)] at eb em; exact ⟨w2 h10, eb, em⟩)) M85 0 (Int.le_refl _) (by omega) (k0 σ) (a0 τ) 1000000 base (fr_refl _ _) (fr_refl _ _) L0
      refine ⟨σ2, τ2, c, nM, ?_, x2, x3, x4, x5⟩
      rw [if_pos h10, if_pos h10]; exact x1
    · rw [if_neg h10] at eb em
      obtain ⟨σ2, τ2, c, nM, x1, x2, x3, x4, x5⟩ := LS_loop E hL (base := base) (mo := mo) (d := e + 1) (d' := e) (by omega) (by omega) (σ1 := k0 σ) (τ1 := a0 τ) (Lc := fun ρ k => r_check_572 (e + 1) ρ k) (Lm := fun ρ nM k => m_askKinds_85 e ρ vt nM mo k) (by rw [eb, em]; exact c_572 hn25 (by rw [← eb]; exact hb)) M85 0 (Int.le_refl _) (by omega) (k0 σ) (a0 τ) 1000000 base (fr_refl _ _) (fr_refl _ _) L0
      refine ⟨σ2, τ2, c, nM, ?_, x2, x3, x4, x5⟩
      rw [if_neg h10, if_neg h10]; exact x1
  obtain ⟨σ2, τ2, c, nM, x1, x2, x3, x4, x5⟩ := loop
  obtain ⟨l1, l2, l3, l4, l5, l6, l7, l8, l9, l10, l11, l12, l13⟩ := x5
  have F : ∀ G, G ∉ nwL → G ∉ k0L → σ2 G = σ G := fun G a b => (x3 G a).trans (k0_fr σ G b)
  have G2 : ∀ H, H ∉ mbN → H ∉ a0L → τ2 H = τ H := fun H a b => (x4 H a).trans (a0_fr τ H b)
  have le := FT_le l3
  have ls2 : τ2 fM_listSize 0 0 = σ fR_names 0 0 := by rw [G2 _ (by decide) (by decide)]; exact hl.2
  have wh2 : τ2 fM_what 0 0 = τ fM_what 0 0 := by rw [G2 _ (by decide) (by decide)]
  have askM : ∀ τ5, c_m_askKinds (e + 1) (a0 τ) = some (0, τ5) → c_m_asked (e + 1 + 1) τ first = some (0, τ5) := by
    intro τ5 h5
    rcases hs with h | h
    · rw [e_m_asked, ht, h]
      iterate 10 rw [if_neg (by decide)]
      rw [if_pos rfl]
      show ((c_m_askKinds (e + 1) (a0 τ)).bind _) = _
      rw [h5]; rfl
    · rw [e_m_asked, ht, h]
      iterate 11 rw [if_neg (by decide)]
      rw [if_pos rfl]
      show ((c_m_askKinds (e + 1) (a0 τ)).bind _) = _
      rw [h5]; rfl
  have good : c = 1000000 → (σ fR_sort 0 0 = 10 → allN σ (if σ fR_isValue 0 0 = 0 then σ fW_kinds 0 0 else σ fW_types 0 0) (if σ fR_isValue 0 0 = 0 then 16 else 8)) ∧ (σ fR_sort 0 0 = 11 → allN σ (σ fW_actions 0 0) 12) := by
    intro z
    have y := l13 z
    refine ⟨fun h => ?_, fun h => ?_⟩
    · rw [if_pos h] at eb em
      rw [← eb, ← em]
      exact y
    · rw [if_neg (by omega)] at eb em
      rw [← eb, ← em]
      exact y
  -- without a kind
  have plain : ∀ v : Int, c_r_check (e + 1 + 1) σ = some (0, ga_up σ2 fR_kind0 0 0 v) → c_m_askKinds (e + 1) (a0 τ) = some (0, τ2) → ((σ fR_sort 0 0 = 10 ∧ σ fR_isValue 0 0 = 1 ∧ v = -1) ∨ (σ fR_runs 0 0 = 0 ∧ v = (if σ fR_sort 0 0 = 10 then 0 else -1))) → ckX σ τ (c_r_check (e + 1 + 1) σ) (c_m_asked (e + 1 + 1) τ first) (fun σ' _ => (σ fR_sort 0 0 = 10 → allN σ (if σ fR_isValue 0 0 = 0 then σ fW_kinds 0 0 else σ fW_types 0 0) (if σ fR_isValue 0 0 = 0 then 16 else 8)) ∧ (σ fR_sort 0 0 = 11 → allN σ (σ fW_actions 0 0) 12) ∧ ((σ fR_sort 0 0 = 10 ∧ σ fR_isValue 0 0 = 1 ∧ σ' fR_kind0 0 0 = -1) ∨ (σ fR_runs 0 0 = 0 ∧ σ' fR_kind0 0 0 = (if σ fR_sort 0 0 = 10 then 0 else -1)) ∨ (σ fR_runs 0 0 = 1 ∧ σ' fR_kind0 0 0 = dN σ (nR σ 0) 0 ∧ dN σ (nR σ 0) 0 ≠ -1))) := by
    intro v hc hm' hv
    have fk : fr [fR_kind0] σ2 (ga_up σ2 fR_kind0 0 0 v) := fr_u (by decide)
    refine ⟨_, τ2, c, hc, askM _ hm', KC_f l1 fk (by decide), l2, FT_f l3 fk (by decide), l4, (fr_trans (fr_sub (k0_fr σ) (by decide)) (fr_trans (fr_sub x3 (by decide)) (fr_sub fk (by decide)))), (fr_trans (fr_sub (a0_fr τ) (by decide)) (fr_sub x4 (by decide))), fun z => ⟨(good z).1, (good z).2, ?_⟩⟩
    rw [up_eq]
    rcases hv with h | h
    · exact Or.inl h
    · exact Or.inr (Or.inl h)
  have endC : c_r_check (e + 1 + 1) σ = (if σ fR_sort 0 0 = 10 ∧ ¬ σ fR_isValue 0 0 = 0 then some (0, ga_up σ2 fR_kind0 0 0 (-1)) else if σ fR_runs 0 0 = 0 then some (0, ga_up σ2 fR_kind0 0 0 (if σ fR_sort 0 0 = 10 then 0 else -1)) else (c_r_need (e + 1) σ2 (σ fR_runFrom 0 0) (σ fR_runTo 0 0) 0).bind fun q => some (0, ga_up q.2 fR_kind0 0 0 q.1)) := by
    rw [x1]
    by_cases h10 : σ fR_sort 0 0 = 10
    · rw [if_pos h10, e_r_check_454, F fR_names (by decide) (by decide), if_neg (by omega), F fR_isValue (by decide) (by decide), F fR_runs (by decide) (by decide), F fR_runFrom (by decide) (by decide), F fR_runTo (by decide) (by decide)]
      by_cases hv : σ fR_isValue 0 0 = 0
      · rw [if_pos hv, if_neg (c := σ fR_sort 0 0 = 10 ∧ ¬ σ fR_isValue 0 0 = 0) (fun z => z.2 hv)]
        by_cases hr : σ fR_runs 0 0 = 0
        · rw [if_pos hr, if_pos hr, e_r_check_564, if_pos h10]
        · rw [if_neg hr, if_neg hr]
          congr 1
          funext q
          rw [e_r_check_564]
      · rw [if_neg hv, if_pos (c := σ fR_sort 0 0 = 10 ∧ ¬ σ fR_isValue 0 0 = 0) ⟨h10, hv⟩, e_r_check_564]
    · rw [if_neg h10, e_r_check_572, F fR_names (by decide) (by decide), if_neg (by omega), F fR_runs (by decide) (by decide), F fR_runFrom (by decide) (by decide), F fR_runTo (by decide) (by decide), if_neg (c := σ fR_sort 0 0 = 10 ∧ ¬ σ fR_isValue 0 0 = 0) (fun z => h10 z.1)]
      by_cases hr : σ fR_runs 0 0 = 0
      · rw [if_pos hr, if_pos hr, e_r_check_642, if_neg h10]
      · rw [if_neg hr, if_neg hr]
        congr 1
        funext q
        rw [e_r_check_642]
  have endM : c_m_askKinds (e + 1) (a0 τ) = (if τ fM_what 0 0 = -1 then some (0, τ2) else if vt = 0 then (c_m_kindOfRun e τ2 (τ fM_what 0 0)).bind (fun q1 => some (0, q1.2)) else some (0, τ2)) := by
    rw [x2, e_m_askKinds_85, ls2, if_neg (by omega), wh2]
  rcases hw with ⟨w1, w2, w3, w4⟩ | ⟨w2, w3⟩
  · refine plain (-1) ?_ ?_ (Or.inl ⟨w1, w2, rfl⟩)
    · rw [endC, if_pos ⟨w1, by omega⟩]
    · rw [if_pos ⟨w1, w3⟩] at ev
      rw [endM, if_neg (by omega), if_neg (by omega)]
  · have nv : ¬ (σ fR_sort 0 0 = 10 ∧ ¬ σ fR_isValue 0 0 = 0) := fun z => z.2 (w2 z.1)
    rcases w3 with ⟨v1, v2⟩ | ⟨v1, v2, v3⟩
    · refine plain (if σ fR_sort 0 0 = 10 then 0 else -1) ?_ ?_ (Or.inr ⟨v2, rfl⟩)
      · rw [endC, if_neg nv, if_pos v2]
      · rw [endM, if_pos v1]
    · have R0 := RU_of E.1 v3 (by omega)
      have t0 := frB_t R0.2.2.2
      obtain ⟨σ3, a1, a2, a3, a4⟩ := k_need E l1 l3 R0.2.2.2 (d := e + 1) (by omega) 0
      obtain ⟨τ3, b1, b2, b3, b4⟩ := m_kindOfRun E l2 l4 R0.2.2.2 R0.1 R0.2.1 R0.2.2.1 (d := e) (by omega)
      have fk : fr [fR_kind0] σ3 (ga_up σ3 fR_kind0 0 0 (dN σ (nR σ 0) 0)) := fr_u (by decide)
      rw [if_neg (fun z => by have := z.2; omega)] at ev
      refine ⟨ga_up σ3 fR_kind0 0 0 (dN σ (nR σ 0) 0), τ3, _, ?_, askM _ ?_, KC_f a3 fk (by decide), b3, FT_f a4 fk (by decide), b4, (fr_trans (fr_sub (k0_fr σ) (by decide)) (fr_trans (fr_sub x3 (by decide)) (fr_trans (fr_sub a2 (by decide)) (fr_sub fk (by decide))))), (fr_trans (fr_sub (a0_fr τ) (by decide)) (fr_trans (fr_sub x4 (by decide)) (fr_sub b2 (by decide)))), fun z => ?_⟩
      · rw [endC, if_neg nv, if_neg (by omega), a1]; rfl
      · rw [endM, if_neg (by omega), if_pos ev, b1]; rfl
      · have z1 := no_min rfl z le
        refine ⟨(good z1.1).1, (good z1.1).2, Or.inr (Or.inr ⟨v2, by rw [up_eq], no_if z1.2 (cd_r E.2.1 t0 (by omega)).2⟩)⟩
end

/-! adjectives -/
theorem po1_2 (l : List Int) : po1 (-2) l = -2 := by
  induction l with
  | nil => rfl
  | cons p r ih => show po1 (if (-2 : Int) = -1 then p else -2) r = -2; rw [if_neg (by decide)]; exact ih
theorem po1_v {l : List Int} (h : ∀ p, p ∈ l → 0 ≤ p) : (l = [] ∧ po1 (-1) l = -1) ∨ (∃ p, l = [p] ∧ 0 ≤ p ∧ po1 (-1) l = p) ∨ (2 ≤ l.length ∧ po1 (-1) l = -2) := by
  match l, h with
  | [], _ => exact Or.inl ⟨rfl, rfl⟩
  | [p], h => exact Or.inr (Or.inl ⟨p, rfl, h p (List.mem_cons_self ..), rfl⟩)
  | p :: q :: r, h =>
    have hp := h p (List.mem_cons_self ..)
    refine Or.inr (Or.inr ⟨by simp, ?_⟩)
    show po1 (if (if (-1 : Int) = -1 then p else -2) = -1 then q else -2) r = -2
    rw [if_pos rfl, if_neg (by omega)]
    exact po1_2 r
theorem PL_mem {σ : ga_S} {k t p : Int} (h : p ∈ PL σ k t 0) : 0 ≤ p ∧ p < σ fW_properties 0 0 := by
  unfold PL at h
  exact (rg_mem 0).mp (List.mem_filter.mp h).1
theorem sM_5 (s x : Int) : sM s x = 5 ↔ s = 3 := by
  unfold sM
  repeat' split
  all_goals omega
theorem sM_6 (s x : Int) : sM s x = 6 ↔ s = 4 := by
  unfold sM
  repeat' split
  all_goals omega
section
variable {σ0 τ0 : ga_S} {f : Int} {N : Nat}
theorem PL_K {σ : ga_S} (K : KC σ0 σ) : PL σ = PL σ0 := by
  funext k t i
  unfold PL own
  rw [K.1 fW_properties (by decide), K.1 fW_propertyTypes (by decide), K.1 fW_parents (by decide), K.1 fW_propertyKinds (by decide)]
/-- the value of a name, if values may be -/
def fvN (σ0 : ga_S) (nm : List Int) (nv : Bool) : Int := if nv = true then -1 else dN σ0 nm 4
def plV (σ0 : ga_S) (kind v : Int) : List Int := PL σ0 kind (σ0 fW_valueTypes 0 v) 0
def fitA (σ0 : ga_S) (kind a : Int) (df : Bool) : Bool := isB (σ0 fW_parents 0) kind (σ0 fW_adjectiveKinds 0 a) && (df || decide (σ0 fW_contraries 0 a ≠ -1))
/-- how many readings the component finds -/
def aC (σ0 : ga_S) (nm : List Int) (kind : Int) (nv df : Bool) : Int := if dN σ0 nm 3 = -1 then (if fvN σ0 nm nv = -1 then 0 else (if po1 (-1) (plV σ0 kind (fvN σ0 nm nv)) = -1 then 0 else if po1 (-1) (plV σ0 kind (fvN σ0 nm nv)) = -2 then 2 else 1)) else (if fitA σ0 kind (dN σ0 nm 3) df = true then 1 else 0)
def aP (σ0 : ga_S) (nm : List Int) (kind : Int) (nv : Bool) : Int := if dN σ0 nm 3 = -1 ∧ fvN σ0 nm nv ≠ -1 then po1 (-1) (plV σ0 kind (fvN σ0 nm nv)) else -1
/-- the readings of the model, as it keeps them -/
def aL (σ0 : ga_S) (nm : List Int) (kind : Int) (nv df : Bool) : List Int := if dN σ0 nm 3 = -1 then (if fvN σ0 nm nv = -1 then [] else List.replicate (plV σ0 kind (fvN σ0 nm nv)).length (100 + 100 * fvN σ0 nm nv + (plV σ0 kind (fvN σ0 nm nv)).headD (-1))) else (if fitA σ0 kind (dN σ0 nm 3) df = true then [dN σ0 nm 3] else [])
def adL : List Nat := [fD_size, fD_spelled, fR_foundAdjective, fR_foundValue, fR_foundProperty]
theorem k_adjective {σ : ga_S} (E : E0 σ0 τ0 f N) (K : KC σ0 σ) {a b : Int} (h : frB σ0 N a b) {kind : Int} (hk : 0 ≤ kind ∧ kind < σ0 fW_kinds 0 0) (nv df : Bool) {d : Nat} (hd : 5 ≤ d) : ∃ σ', c_r_adjective d σ a b kind (b2i nv) (b2i df) = some (aC σ0 (nmT σ0 a b) kind nv df, σ') ∧ fr adL σ σ' ∧ KC σ0 σ' ∧ σ' fR_foundAdjective 0 0 = dN σ0 (nmT σ0 a b) 3 ∧ σ' fR_foundValue 0 0 = fvN σ0 (nmT σ0 a b) nv ∧ σ' fR_foundProperty 0 0 = aP σ0 (nmT σ0 a b) kind nv := by
  obtain ⟨d, rfl⟩ : ∃ e, d = e + 1 := ⟨d - 1, by omega⟩
  obtain ⟨nm, enm⟩ : ∃ x, x = nmT σ0 a b := ⟨_, rfl⟩
  have wk := e0_k E
  have wa := e0_a E
  have wv := e0_v E
  have wp := e0_p E
  have r3 := e0_dN E nm 3
  have r4 := e0_dN E nm 4
  have m3 : mxN σ0 3 = σ0 fW_adjectives 0 0 := rfl
  have m4 : mxN σ0 4 = σ0 fW_values 0 0 := rfl
  have wa2 := wa.2.1
  have wv2 := wv.2.1
  obtain ⟨σ1, a1, a2, a3, a4⟩ := k_mean E K h (d := d) (by omega) 3
  rw [← enm] at a1 a3 ⊢
  obtain ⟨σ2, e2⟩ : ∃ x, x = ga_up σ1 fR_foundAdjective 0 0 (dN σ0 nm 3) := ⟨_, rfl⟩
  have f2 : fr [fR_foundAdjective] σ1 σ2 := by rw [e2]; exact fr_u (by decide)
  have K2 := KC_f a4 f2 (by decide)
  have A2 : AT σ2 nm := by
    unfold AT spl
    rw [f2 _ (by decide), f2 _ (by decide)]
    exact a3
  have fA2 : σ2 fR_foundAdjective 0 0 = dN σ0 nm 3 := by rw [e2, up_eq]
  -- up to the value
  have st : c_r_adjective (d + 1) σ a b kind (b2i nv) (b2i df) = r_adjective_29 d σ2 kind (b2i df) (fvN σ0 nm nv) := by
    rw [e_r_adjective, a1]
    simp only [Option.bind_some]
    rw [← e2]
    cases nv with
    | true => rw [if_neg b2i_n]; rfl
    | false =>
      rw [if_pos b2i_f, k_of E K2 A2 (by omega)]
      simp only [Option.bind_some]
      rfl
  obtain ⟨v, ev⟩ : ∃ x, x = fvN σ0 nm nv := ⟨_, rfl⟩
  have rv : v = -1 ∨ (0 ≤ v ∧ v < σ0 fW_values 0 0) := by
    rw [ev]; unfold fvN
    cases nv with
    | true => exact Or.inl rfl
    | false => rw [if_neg (by decide)]; omega
  obtain ⟨σ3, e3⟩ : ∃ x, x = ga_up (ga_up σ2 fR_foundValue 0 0 v) fR_foundProperty 0 0 (-1) := ⟨_, rfl⟩
  have f3 : fr [fR_foundValue, fR_foundProperty] σ2 σ3 := by rw [e3]; exact fr_trans (fr_u (by decide)) (fr_u (by decide))
  have K3 := KC_f K2 f3 (by decide)
  have f13 : fr adL σ σ3 := fr_trans (fr_sub a2 (by decide)) (fr_trans (fr_sub f2 (by decide)) (fr_sub f3 (by decide)))
  have g1 : σ3 fR_foundAdjective 0 0 = dN σ0 nm 3 := by rw [f3 _ (by decide)]; exact fA2
  have g2 : σ3 fR_foundValue 0 0 = v := by rw [e3, up_F (by decide), up_eq]
  have g3 : σ3 fR_foundProperty 0 0 = -1 := by rw [e3, up_eq]
  have hF : FO (σ3 fW_parents 0) (σ0 fW_kinds 0 0) := by rw [K3.1 _ (by decide)]; exact wk.1
  rw [st, e_r_adjective_29, fA2, ← ev, ← e3]
  by_cases c1 : dN σ0 nm 3 = -1
  · rw [if_pos c1]
    by_cases c2 : v = -1
    · have eC : aC σ0 nm kind nv df = 0 := by unfold aC; rw [if_pos c1, ← ev, if_pos c2]
      have eP : aP σ0 nm kind nv = -1 := by unfold aP; rw [← ev, if_neg (fun z => z.2 c2)]
      rw [if_pos c2, eC, eP]
      exact ⟨σ3, rfl, f13, K3, g1, g2, g3⟩
    · have pv := s_w_propertyOf hF (d := d) (by omega) (k := kind) (t := σ0 fW_valueTypes 0 v) (by rw [K3.1 _ (by decide)]; exact wp.2.1) (by omega) (by omega)
      rw [PL_K K3] at pv
      have eP : aP σ0 nm kind nv = po1 (-1) (plV σ0 kind v) := by unfold aP; rw [← ev, if_pos ⟨c1, c2⟩]
      have eC : aC σ0 nm kind nv df = (if po1 (-1) (plV σ0 kind v) = -1 then 0 else if po1 (-1) (plV σ0 kind v) = -2 then 2 else 1) := by unfold aC; rw [if_pos c1, ← ev, if_neg c2]
      rw [if_neg c2, ck_ok _ (by omega), show σ2 fW_valueTypes 0 v = σ0 fW_valueTypes 0 v by rw [K2.1 _ (by decide)], pv, eP]
      simp only [Option.bind_some]
      obtain ⟨σ4, e4⟩ : ∃ x, x = ga_up σ3 fR_foundProperty 0 0 (po1 (-1) (plV σ0 kind v)) := ⟨_, rfl⟩
      have f4 : fr [fR_foundProperty] σ3 σ4 := by rw [e4]; exact fr_u (by decide)
      have e4' : ga_up σ3 fR_foundProperty 0 0 (po1 (-1) (PL σ0 kind (σ0 fW_valueTypes 0 v) 0)) = σ4 := e4.symm
      rw [e4']
      have fin : fr adL σ σ4 ∧ KC σ0 σ4 ∧ σ4 fR_foundAdjective 0 0 = dN σ0 nm 3 ∧ σ4 fR_foundValue 0 0 = v ∧ σ4 fR_foundProperty 0 0 = po1 (-1) (plV σ0 kind v) := ⟨fr_trans f13 (fr_sub f4 (by decide)), KC_f K3 f4 (by decide), by rw [f4 _ (by decide)]; exact g1, by rw [f4 _ (by decide)]; exact g2, by rw [e4, up_eq]⟩
      refine ⟨σ4, ?_, fin⟩
      rw [eC]
      show (if po1 (-1) (plV σ0 kind v) = -1 then some ((0 : Int), σ4) else if po1 (-1) (plV σ0 kind v) = -2 then some (2, σ4) else some (1, σ4)) = _
      by_cases c3 : po1 (-1) (plV σ0 kind v) = -1
      · rw [if_pos c3, if_pos c3]
      · rw [if_neg c3, if_neg c3]
        by_cases c4 : po1 (-1) (plV σ0 kind v) = -2
        · rw [if_pos c4, if_pos c4]
        · rw [if_neg c4, if_neg c4]
  · have aa := wa.2.2.2 (dN σ0 nm 3) (by omega) (by omega)
    have eP : aP σ0 nm kind nv = -1 := by unfold aP; rw [if_neg (fun z => c1 z.1)]
    have eC : aC σ0 nm kind nv df = (if fitA σ0 kind (dN σ0 nm 3) df = true then 1 else 0) := by unfold aC; rw [if_neg c1]
    rw [if_neg c1, ck_ok _ (by omega), K2.1 fW_adjectiveKinds (by decide), s_w_isBelow hF (by omega) _ (by omega) hk.2]
    simp only [Option.bind_some]
    rw [K3.1 fW_parents (by decide), g1, eP]
    have fin : fr adL σ σ3 ∧ KC σ0 σ3 ∧ σ3 fR_foundAdjective 0 0 = dN σ0 nm 3 ∧ σ3 fR_foundValue 0 0 = v ∧ σ3 fR_foundProperty 0 0 = -1 := ⟨f13, K3, g1, g2, g3⟩
    have no : r_adjective_93 d σ3 = some (0, σ3) := by rw [e_r_adjective_93, e_r_adjective_94, if_pos rfl]
    have ye : r_adjective_89 d σ3 = some (1, σ3) := by rw [e_r_adjective_89, e_r_adjective_94, if_neg (by decide)]
    refine ⟨σ3, ?_, fin⟩
    rw [eC]
    unfold fitA
    cases q : isB (σ0 fW_parents 0) kind (σ0 fW_adjectiveKinds 0 (dN σ0 nm 3)) with
    | false => rw [if_pos b2i_f, no, Bool.false_and, if_neg (by decide)]
    | true =>
      rw [if_neg b2i_n, Bool.true_and]
      cases df with
      | true => rw [if_neg b2i_n, ye, Bool.true_or, if_pos rfl]
      | false =>
        rw [if_pos b2i_f, ck_ok _ (by omega), K3.1 fW_contraries (by decide), Bool.false_or]
        by_cases w : σ0 fW_contraries 0 (dN σ0 nm 3) = -1
        · rw [if_pos w, no, decide_eq_false (fun z => z w), if_neg (by decide)]
        · rw [if_neg w, ye, decide_eq_true w, if_pos rfl]
def adM : List Nat := [fM_foundAdjective, fM_matches]
theorem m_adjective {τ : ga_S} (E : E0 σ0 τ0 f N) (K : KM τ0 τ) {a b t n : Int} (h : frB σ0 N a b) (ht : t = f + a) (hn : n = b - a) {kind : Int} (hk : 0 ≤ kind ∧ kind < σ0 fW_kinds 0 0) (df wv : Bool) {d : Nat} (hd : 4 ≤ d) : ∃ τ', c_m_adjective d τ t n kind (b2i df) (b2i wv) = some (((aL σ0 (nmT σ0 a b) kind (!wv) df).length : Int), τ') ∧ fr adM τ τ' ∧ KM τ0 τ' ∧ (aL σ0 (nmT σ0 a b) kind (!wv) df ≠ [] → τ' fM_foundAdjective 0 0 = (aL σ0 (nmT σ0 a b) kind (!wv) df).headD 0) := by
  obtain ⟨d, rfl⟩ : ∃ e, d = e + 1 := ⟨d - 1, by omega⟩
  obtain ⟨nm, enm⟩ : ∃ x, x = nmT σ0 a b := ⟨_, rfl⟩
  have wk := e0_k E
  have wa := e0_a E
  have wv' := e0_v E
  have wp := e0_p E
  have hp : ∀ τ1, KM τ0 τ1 → ∀ k, 0 ≤ k → k < σ0 fW_kinds 0 0 → τ1 fM_above 0 k = σ0 fW_parents 0 k := fun τ1 K1 k h0 h1 => by rw [K1 _ (by decide)]; exact wk.2.2.2.1 k h0 h1
  obtain ⟨k', m1, m2, m3⟩ := m_mean E K h ht hn (d := d) (by omega)
  rw [← enm] at m2 m3 ⊢
  rw [e_m_adjective, m1]
  simp only [Option.bind_some]
  obtain ⟨τ1, e1⟩ : ∃ x, x = ga_up τ fM_foundAdjective 0 0 (-1) := ⟨_, rfl⟩
  have g1 : fr [fM_foundAdjective] τ τ1 := by rw [e1]; exact fr_u (by decide)
  have K1 := KM_f K g1 (by decide)
  rw [← e1]
  by_cases c0 : fnd σ0 nm 0 = -1
  · have d3 : dN σ0 nm 3 = -1 := by unfold dN; rw [if_pos (Or.inl c0)]
    have d4 : dN σ0 nm 4 = -1 := by unfold dN; rw [if_pos (Or.inl c0)]
    have v4 : fvN σ0 nm (!wv) = -1 := by unfold fvN; rw [d4]; split <;> rfl
    have e : aL σ0 nm kind (!wv) df = [] := by unfold aL; rw [if_pos d3, if_pos v4]
    rw [if_pos (m2 c0), e]
    exact ⟨τ1, rfl, fr_sub g1 (by decide), K1, fun z => absurd rfl z⟩
  · obtain ⟨n0, n1, n2, n3⟩ := m3 c0
    have fr0 := (fnd_r (σ := σ0) (nm := nm) (Int.le_refl 0)).resolve_left c0
    have lv : live σ0 (fnd σ0 nm 0) := ⟨fr0.1, fr0.2.1, fr0.2.2.1⟩
    have sr := E.2.2.1.2.2.2.2.2.2.2 _ lv
    have wd := (e0_d E _ lv).1
    obtain ⟨s, es⟩ : ∃ x, x = σ0 fD_sorts 0 (fnd σ0 nm 0) := ⟨_, rfl⟩
    obtain ⟨x, ex⟩ : ∃ x, x = σ0 fD_numbers 0 (fnd σ0 nm 0) := ⟨_, rfl⟩
    rw [← es, ← ex] at n2 n3 sr wd
    have k5 := sM_5 s x
    have k6 := sM_6 s x
    have ix : s ≠ 11 → iM s x = x := by
      intro z
      unfold iM
      rw [if_neg (fun y => z y.1)]
    have dd : ∀ r : Int, dN σ0 nm r = if s = r then x else -1 := by
      intro r
      unfold dN
      rw [← es, ← ex]
      by_cases z : s = r
      · rw [if_pos z, if_neg (by simp [c0, z])]
      · rw [if_neg z, if_pos (Or.inr z)]
    have m79 : ∀ τ2, KM τ0 τ2 → τ2 fM_lexSort = τ fM_lexSort → ∀ i, s ≠ 4 → m_adjective_79 d τ2 kind (b2i wv) k' i = some (0, τ2) := by
      intro τ2 K2 es2 i hs
      rw [e_m_adjective_79, ck_ok _ (by omega), es2, n2, if_neg (fun z => hs (k6.mp z))]
    rw [if_neg (by omega), ck_ok _ (by omega), ck_ok _ (by omega), n2, n3]
    by_cases c3 : s = 3
    · have d3 := dd 3
      rw [if_pos c3] at d3
      have wd' : x < σ0 fW_adjectives 0 0 := by rw [c3] at wd; exact wd
      have aa := wa.2.2.2 x (by omega) wd'
      have wa2 := wa.2.1
      have e : aL σ0 nm kind (!wv) df = if fitA σ0 kind x df = true then [x] else [] := by unfold aL; rw [d3, if_neg (by omega)]
      rw [if_pos (k5.mpr c3), ix (by omega), ck_ok _ (by omega), K fM_adjectiveKind (by decide), aa.1.2.2, s_m_isBelow wk.1 (hp τ1 K1) (by omega) _ (by omega) hk.2]
      simp only [Option.bind_some]
      rw [e]
      unfold fitA
      have no := m79 τ1 K1 (g1 _ (by decide)) x (by omega)
      have fo : ∃ τ', some (((([] : List Int).length : Nat) : Int), τ1) = some (((([] : List Int).length : Nat) : Int), τ') ∧ fr adM τ τ' ∧ KM τ0 τ' ∧ (([] : List Int) ≠ [] → τ' fM_foundAdjective 0 0 = ([] : List Int).headD 0) := ⟨τ1, rfl, fr_sub g1 (by decide), K1, fun z => absurd rfl z⟩
      have f2 : fr [fM_foundAdjective] τ1 (ga_up τ1 fM_foundAdjective 0 0 x) := fr_u (by decide)
      have ye : m_adjective_71 d τ1 x = some (1, ga_up τ1 fM_foundAdjective 0 0 x) := e_m_adjective_71 d τ1 x
      have go : ∃ τ', some ((1 : Int), ga_up τ1 fM_foundAdjective 0 0 x) = some (((([x] : List Int).length : Nat) : Int), τ') ∧ fr adM τ τ' ∧ KM τ0 τ' ∧ (([x] : List Int) ≠ [] → τ' fM_foundAdjective 0 0 = ([x] : List Int).headD 0) := ⟨_, rfl, fr_trans (fr_sub g1 (by decide)) (fr_sub f2 (by decide)), KM_f K1 f2 (by decide), fun _ => by rw [up_eq]; rfl⟩
      cases q : isB (σ0 fW_parents 0) kind (σ0 fW_adjectiveKinds 0 x) with
      | false =>
        rw [if_pos b2i_f, no, Bool.false_and, if_neg (by decide)]; exact fo
      | true =>
        rw [if_neg b2i_n, Bool.true_and]
        cases df with
        | true => rw [if_neg b2i_n, ye, Bool.true_or, if_pos rfl]; exact go
        | false =>
          rw [if_pos b2i_f, ck_ok _ (by omega), K1 fM_definedTests (by decide), Bool.false_or]
          rcases aa.2 with w | w
          · rw [if_neg (by omega), no, decide_eq_false (fun z => z w.1), if_neg (by decide)]; exact fo
          · rw [if_pos w.2.2.2.2.2.2, ye, decide_eq_true (by omega : σ0 fW_contraries 0 x ≠ -1), if_pos rfl]; exact go
    · have d3 := dd 3
      rw [if_neg c3] at d3
      rw [if_neg (fun z => c3 (k5.mp z))]
      by_cases c4 : s = 4
      · have d4 := dd 4
        rw [if_pos c4] at d4
        have wd' : x < σ0 fW_values 0 0 := by rw [c4] at wd; exact wd
        have vv := wv'.2.2.2 x (by omega) wd'
        have wv2 := wv'.2.1
        rw [ix (by omega), e_m_adjective_79, ck_ok _ (by omega), g1 fM_lexSort (by decide), n2, if_pos (k6.mpr c4)]
        cases wv with
        | false =>
          have e : aL σ0 nm kind (!false) df = [] := by unfold aL; rw [if_pos d3, if_pos (by rfl)]
          rw [if_pos b2i_f, e]
          exact ⟨τ1, rfl, fr_sub g1 (by decide), K1, fun z => absurd rfl z⟩
        | true =>
          have fv : fvN σ0 nm (!true) = x := by unfold fvN; rw [if_neg (by decide)]; exact d4
          have e : aL σ0 nm kind (!true) df = List.replicate (plV σ0 kind x).length (100 + 100 * x + (plV σ0 kind x).headD (-1)) := by unfold aL; rw [if_pos d3, fv, if_neg (by omega)]
          obtain ⟨d, rfl⟩ : ∃ e, d = e + 1 := ⟨d - 1, by omega⟩
          have po := s_m_propertyOf_10 (σ := σ0) (τ := τ1) wk.1 (hp τ1 K1) wp.2.1 (by rw [K1 _ (by decide)]; exact wp.2.2.1) (fun p p0 p1 => by rw [K1 _ (by decide)]; exact (wp.2.2.2.1 p p0 p1).2.2) (fun k p h0 h1 h2 h3 => by rw [K1 _ (by decide)]; exact wp.2.2.2.2 k p h0 h1 h2 h3) (d := d) (by omega) (k := kind) (t := σ0 fW_valueTypes 0 x) hk.1 hk.2 0 (Int.le_refl _) (-1) 0 (Int.le_refl _) (Int.le_refl _)
          rw [if_pos rfl, Int.zero_add] at po
          have po' : c_m_propertyOf (d + 1) τ1 kind (σ0 fW_valueTypes 0 x) = some ((plV σ0 kind x).headD (-1), ga_up τ1 fM_matches 0 0 ((plV σ0 kind x).length : Int)) := by rw [e_m_propertyOf]; exact po
          obtain ⟨τ2, e2⟩ : ∃ y, y = ga_up τ1 fM_matches 0 0 ((plV σ0 kind x).length : Int) := ⟨_, rfl⟩
          have f2 : fr [fM_matches] τ1 τ2 := by rw [e2]; exact fr_u (by decide)
          rw [← e2] at po'
          rw [if_neg b2i_n, ck_ok _ (by omega), K1 fM_valueType (by decide), vv.2.2, po']
          simp only [Option.bind_some]
          rw [e, List.length_replicate]
          have rp : (plV σ0 kind x).headD (-1) = -1 ∨ (0 ≤ (plV σ0 kind x).headD (-1) ∧ (plV σ0 kind x).headD (-1) < 12) := by
            cases hl : plV σ0 kind x with
            | nil => exact Or.inl rfl
            | cons p r =>
              have := PL_mem (σ := σ0) (k := kind) (t := σ0 fW_valueTypes 0 x) (p := p) (by rw [show PL σ0 kind (σ0 fW_valueTypes 0 x) 0 = plV σ0 kind x from rfl, hl]; exact List.mem_cons_self ..)
              have := wp.2.1
              right
              show 0 ≤ p ∧ p < 12
              omega
          have mt : τ2 fM_matches 0 0 = ((plV σ0 kind x).length : Int) := by rw [e2, up_eq]
          have w132 : ∀ y : Int, ∃ τ', m_adjective_132 (d + 1) τ2 y = some (((plV σ0 kind x).length : Int), τ') ∧ fr adM τ τ' ∧ KM τ0 τ' ∧ τ' fM_foundAdjective 0 0 = y := by
            intro y
            have f3 : fr [fM_foundAdjective] τ2 (ga_up τ2 fM_foundAdjective 0 0 y) := fr_u (by decide)
            rw [e_m_adjective_132, mt]
            exact ⟨_, rfl, fr_trans (fr_sub g1 (by decide)) (fr_trans (fr_sub f2 (by decide)) (fr_sub f3 (by decide))), KM_f (KM_f K1 f2 (by decide)) f3 (by decide), by rw [up_eq]⟩
          by_cases c5 : (plV σ0 kind x).headD (-1) = -1
          · have nl : plV σ0 kind x = [] := by
              cases hl : plV σ0 kind x with
              | nil => rfl
              | cons p r =>
                have := PL_mem (σ := σ0) (k := kind) (t := σ0 fW_valueTypes 0 x) (p := p) (by rw [show PL σ0 kind (σ0 fW_valueTypes 0 x) 0 = plV σ0 kind x from rfl, hl]; exact List.mem_cons_self ..)
                rw [hl] at c5
                have c5' : p = -1 := c5
                omega
            obtain ⟨τ', u1, u2, u3, u4⟩ := w132 (-1)
            rw [if_pos c5, u1]
            exact ⟨τ', rfl, u2, u3, fun z => absurd (by rw [nl]; rfl) z⟩
          · obtain ⟨τ', u1, u2, u3, u4⟩ := w132 (100 + 100 * x + (plV σ0 kind x).headD (-1))
            rw [if_neg c5, w32_ok (x := 100 * x) (by omega), w32_ok (x := 100 + 100 * x) (by omega), w32_ok (x := 100 + 100 * x + (plV σ0 kind x).headD (-1)) (by omega), u1]
            refine ⟨τ', rfl, u2, u3, fun z => ?_⟩
            rw [u4]
            cases hl : (plV σ0 kind x).length with
            | zero => rw [hl] at z; exact absurd rfl z
            | succ m => rfl
      · have d4 := dd 4
        rw [if_neg c4] at d4
        have v4 : fvN σ0 nm (!wv) = -1 := by unfold fvN; rw [d4]; split <;> rfl
        have e : aL σ0 nm kind (!wv) df = [] := by unfold aL; rw [if_pos d3, if_pos v4]
        rw [m79 τ1 K1 (g1 _ (by decide)) _ c4, e]
        exact ⟨τ1, rfl, fr_sub g1 (by decide), K1, fun z => absurd rfl z⟩
end

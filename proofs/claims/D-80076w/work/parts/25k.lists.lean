/-! lists of names that must be new -/
section
variable {σ0 τ0 : ga_S} {f : Int} {N : Nat}
/-- names A k .. B k are the model's runs R k, one behind the other -/
def LST (σ0 τ0 : ga_S) (f : Int) (N : Nat) (A B R : Int → Int) (n : Int) : Prop := n ≤ 2501 ∧ (∀ k, 0 ≤ k → k < n → RU σ0 τ0 f N (R k) (A k) (B k) ∧ A k < B k) ∧ (∀ k, 0 ≤ k → k + 1 < n → B k ≤ A (k + 1))
theorem LST_lt {A B R : Int → Int} {n : Int} (h : LST σ0 τ0 f N A B R n) : ∀ (m : Nat) (j : Int), 0 ≤ j → j + m + 1 < n → A j < A (j + m + 1) := by
  intro m
  induction m with
  | zero =>
    intro j h0 h1
    have a := (h.2.1 j h0 (by omega)).2
    have b := h.2.2 j h0 (by simpa using h1)
    simpa using (by omega : A j < A (j + 1))
  | succ m ih =>
    intro j h0 h1
    push_cast at h1
    have x := ih j h0 (by omega)
    have a := (h.2.1 (j + m + 1) (by omega) (by omega)).2
    have b := h.2.2 (j + m + 1) (by omega) (by omega)
    push_cast
    rw [show j + ((m : Int) + 1) + 1 = j + m + 1 + 1 by omega]
    omega
theorem LST_cd (E : E0 σ0 τ0 f N) {A B R : Int → Int} {n : Int} (h : LST σ0 τ0 f N A B R n) {j k : Int} (h0 : 0 ≤ j) (hjk : j < k) (hk : k < n) : cd σ0 (A j) 1 < cd σ0 (A k) 0 := by
  have p := LST_lt h (k - j - 1).toNat j h0 (by omega)
  rw [show j + ((k - j - 1).toNat : Int) + 1 = k by omega] at p
  have a := frB_t (h.2.1 j h0 (by omega)).1.2.2.2
  have b := frB_t (h.2.1 k (by omega) hk).1.2.2.2
  exact cd_lt E.2.1 a.1 p b.2 (by omega) (by omega)
def wL (σ0 : ga_S) (A B : Int → Int) (k : Int) : List (List Int) := wsT σ0 0 (A k) (B k)
/-- ahead of name k -/
def LSq (σ0 τ0 : ga_S) (f : Int) (N : Nat) (A B : Int → Int) (base mo : Int) (σ τ : ga_S) (c k nM : Int) : Prop := KC σ0 σ ∧ KM τ0 τ ∧ FT σ c ∧ GT τ c ∧ nwO σ0 N σ ∧ nwQ σ0 τ0 f N τ ∧ sameN σ0 (nwC σ0 σ) (nwM σ0 τ0 f τ) ∧ nwC σ0 σ = (rg 0 k).map (wL σ0 A B) ∧ σ fR_newNames 0 0 = k ∧ τ fM_news 0 0 ≤ k ∧ (nM = base + k ∨ ∃ j, 0 ≤ j ∧ j < k ∧ c ≤ cd σ0 (A j) 1) ∧ (0 ≤ nM ∧ nM ≤ base + k) ∧ (c = 1000000 → ∀ j, 0 ≤ j → j < k → nB σ0 (wL σ0 A B j) ((rg 0 j).map (wL σ0 A B)) = true ∧ base + j < mo)
theorem LS_step (E : E0 σ0 τ0 f N) {A B R : Int → Int} {n : Int} (hL : LST σ0 τ0 f N A B R n) {base mo : Int} {σ τ : ga_S} {c k nM : Int} (h : LSq σ0 τ0 f N A B base mo σ τ c k nM) (h0 : 0 ≤ k) (hk : k < n) {d d' : Nat} (hd : 4 ≤ d) (hd' : 4 ≤ d') : ∃ (σ' τ' : ga_S) (g : Bool) (c' : Int), c_r_isNew d σ (A k) (B k) (base + k) mo = some (0, σ') ∧ c_m_isNew d' τ (R k) = some (b2i g, τ) ∧ c_m_mustBeNew d' τ (R k) nM mo = some (0, τ') ∧ fr nwL σ σ' ∧ fr mbN τ τ' ∧ LSq σ0 τ0 f N A B base mo σ' τ' c' (k + 1) (nM + b2i g) := by
  obtain ⟨l1, l2, l3, l4, l5, l6, l7, l8, l9, l10, l11, l12, l13⟩ := h
  obtain ⟨hR, hAB⟩ := hL.2.1 k h0 hk
  have hn := hL.1
  obtain ⟨σ', a1, a2, a3, a4, a5, a6, a7⟩ := k_isNew E l1 l3 l5 (by omega) hR.2.2.2 (base + k) mo (d := d) (by omega)
  obtain ⟨τ', b1, b2, b3, b4, b5, b6, b7⟩ := m_mustBeNew E l2 l4 l6 (by omega) hR nM mo (d := d') hd'
  have isn := m_isNew E l2 l6 (by omega) hR (d := d') (by omega)
  have sm := l7 (wsT σ0 0 (A k) (B k))
  obtain ⟨g, eg⟩ : ∃ g, g = nB σ0 (wsT σ0 0 (A k) (B k)) (nwM σ0 τ0 f τ) := ⟨_, rfl⟩
  rw [sm, ← eg] at a4
  rw [← eg] at b4 b7 isn
  have t := frB_t hR.2.2.2
  have le := FT_le l3
  have x1 := nwCd_r E.2.1 g (base + k) mo t
  have x2 := nwCd_r E.2.1 g nM mo t
  have ceq : min c (nwCd σ0 g (base + k) mo (A k)) = min c (nwCd σ0 g nM mo (A k)) := by
    rcases l11 with e | ⟨j, j0, j1, j2⟩
    · rw [e]
    · have := LST_cd E hL j0 j1 hk
      omega
  have b4' : GT τ' (min c (nwCd σ0 g nM mo (A k))) := b4
  rw [← ceq] at b4'
  have snoc : (rg 0 (k + 1)).map (wL σ0 A B) = (rg 0 k).map (wL σ0 A B) ++ [wL σ0 A B k] := by
    rw [rg_snoc 0 h0, List.map_append]; rfl
  have smn : sameN σ0 (nwC σ0 σ') (nwM σ0 τ0 f τ') := by
    rw [a7, b7, eg]
    exact sameN_s l7 _
  refine ⟨σ', τ', g, _, a1, isn, b1, a2, b2, a3, b3, a4, b4', a5, b5, smn, by rw [a7, l8, snoc]; rfl, by omega, by omega, ?_, ?_, fun z j j0 j1 => ?_⟩
  · cases hg : g with
    | true =>
      rcases l11 with e | ⟨j, j0, j1, j2⟩
      · left; rw [e, b2i_t]; omega
      · right; exact ⟨j, j0, by omega, by omega⟩
    | false =>
      right
      refine ⟨k, h0, by omega, ?_⟩
      show min c (if false = true then _ else cd σ0 (A k) 1) ≤ _
      rw [if_neg (by decide)]
      omega
  · have := b2i_01 g
    omega
  · have z1 := no_min rfl z le
    have y := nwCd_1 E.2.1 t z1.2
    by_cases q : j = k
    · rw [q, ← l8]
      refine ⟨?_, y.2⟩
      rw [show wL σ0 A B k = wsT σ0 0 (A k) (B k) from rfl, sm, ← eg]; exact y.1
    · exact l13 z1.1 j j0 (by omega)
theorem LS_loop (E : E0 σ0 τ0 f N) {A B R : Int → Int} {n : Int} (hL : LST σ0 τ0 f N A B R n) {base mo : Int} {d d' : Nat} (hd : 4 ≤ d) (hd' : 4 ≤ d') {σ1 τ1 : ga_S} {Lc : ga_S → Int → Option ga_R} {Lm : ga_S → Int → Int → Option ga_R}
    (hC : ∀ σ k, fr nwL σ1 σ → 0 ≤ k → k < n → Lc σ k = (c_r_isNew d σ (A k) (B k) (base + k) mo).bind fun q => Lc q.2 (k + 1))
    (hM : ∀ τ nM k, fr mbN τ1 τ → 0 ≤ nM → nM ≤ base + k → 0 ≤ k → k < n → ∀ g : Bool, c_m_isNew d' τ (R k) = some (b2i g, τ) → Lm τ nM k = (c_m_mustBeNew d' τ (R k) nM mo).bind fun q => Lm q.2 (nM + b2i g) (k + 1)) :
    ∀ k, 0 ≤ k → k ≤ n → ∀ σ τ c nM, fr nwL σ1 σ → fr mbN τ1 τ → LSq σ0 τ0 f N A B base mo σ τ c k nM → ∃ σ' τ' c' nM', Lc σ k = Lc σ' n ∧ Lm τ nM k = Lm τ' nM' n ∧ fr nwL σ1 σ' ∧ fr mbN τ1 τ' ∧ LSq σ0 τ0 f N A B base mo σ' τ' c' n nM' := by
  refine rg_ind (n := n) ?_ ?_
  · intro k h h0 h1 σ τ c nM f1 g1 hLS
    have e : k = n := by omega
    subst e
    exact ⟨σ, τ, c, nM, rfl, rfl, f1, g1, hLS⟩
  · intro k h ih h0 h1 σ τ c nM f1 g1 hLS
    have nb := hLS.2.2.2.2.2.2.2.2.2.2.2.1
    obtain ⟨σ', τ', g, c', a1, a2, a3, a4, a5, a6⟩ := LS_step E hL hLS h0 h hd hd'
    obtain ⟨σ'', τ'', c'', nM'', b1, b2, b3, b4, b5⟩ := ih (by omega) (by omega) σ' τ' c' (nM + b2i g) (fr_trans f1 a4) (fr_trans g1 a5) a6
    refine ⟨σ'', τ'', c'', nM'', ?_, ?_, b3, b4, b5⟩
    · rw [hC σ k f1 h0 h, a1]
      simp only [Option.bind_some]
      exact b1
    · rw [hM τ nM k g1 nb.1 nb.2 h0 h g a2, a3]
      simp only [Option.bind_some]
      exact b2
theorem LS_0 (hf : σ0 fR_fault 0 0 = 0) {A B : Int → Int} {base mo : Int} (hb : 0 ≤ base) {σ1 τ1 : ga_S} (f1 : fr [fR_isTyped, fR_kind0, fD_size, fD_spelled] (k0 σ0) σ1) (g1 : fr [fM_how] (a0 τ0) τ1) : LSq σ0 τ0 f N A B base mo σ1 τ1 1000000 0 base := by
  obtain ⟨K1, F1, O1, q1, S1, _⟩ := k0_ok hf N
  obtain ⟨M1, G1, Q1, p1, T1, _⟩ := a0_ok σ0 τ0 f N
  have S2 : nwC σ0 σ1 = [] := by rw [← S1]; unfold nwC; rw [f1 _ (by decide), f1 _ (by decide), f1 _ (by decide)]
  have T2 : nwM σ0 τ0 f τ1 = [] := by rw [← T1]; unfold nwM; rw [g1 _ (by decide), g1 _ (by decide)]
  refine ⟨KC_f K1 f1 (by decide), KM_f M1 g1 (by decide), FT_f F1 f1 (by decide), GT_f G1 g1 (by decide), ?_, ?_, ?_, ?_, ?_, ?_, Or.inl (by omega), by omega, fun _ j j0 j1 => by omega⟩
  · unfold nwO; rw [f1 _ (by decide), f1 _ (by decide), f1 _ (by decide)]; exact O1
  · unfold nwQ; rw [g1 _ (by decide), g1 _ (by decide)]; exact Q1
  · rw [S2, T2]; exact sameN_0 σ0
  · rw [S2, rg_n (Int.le_refl _)]; rfl
  · rw [f1 _ (by decide)]; exact q1
  · rw [g1 _ (by decide), p1]; exact Int.le_refl _
end
/-- the names of a sentence, as such a list -/
theorem LST_n {σ τ : ga_S} {f : Int} {N : Nat} (E : E0 σ τ f N) (hm : 2 * τ fM_runs 0 0 ≤ 5001) (hn : ∀ k, 0 ≤ k → k < σ fR_names 0 0 → nn σ τ f k k) (ho : oN σ) : LST σ τ f N (fun k => σ fR_nameFrom 0 k) (fun k => σ fR_nameTo 0 k) (fun k => k) (σ fR_names 0 0) := by
  refine ⟨?_, fun k h0 h1 => ⟨RU_of E.1 (hn k h0 h1) (by omega), (hn k h0 h1).2.2.2.2.1⟩, ho⟩
  by_cases c : 0 < σ fR_names 0 0
  · have := (hn (σ fR_names 0 0 - 1) (by omega) (by omega)).2.1
    omega
  · omega

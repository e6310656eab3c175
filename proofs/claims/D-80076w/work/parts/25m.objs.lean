/-! names that are objects, or new -/
section
variable {σ0 τ0 : ga_S} {f : Int} {N : Nat}
/-- the names ahead of k that mean nothing -/
def nwS (σ0 : ga_S) (A B : Int → Int) (k : Int) : List (List (List Int)) := ((rg 0 k).map (wL σ0 A B)).filter (fun W => decide (fnd σ0 (jn W) 0 = -1))
theorem nwS_s (A B : Int → Int) {k : Int} (h : 0 ≤ k) : nwS σ0 A B (k + 1) = if fnd σ0 (nmT σ0 (A k) (B k)) 0 = -1 then nwS σ0 A B k ++ [wL σ0 A B k] else nwS σ0 A B k := by
  unfold nwS
  rw [rg_snoc 0 h, List.map_append, List.filter_append]
  show _ ++ (List.filter _ [wL σ0 A B k]) = _
  by_cases c : fnd σ0 (nmT σ0 (A k) (B k)) 0 = -1
  · rw [if_pos c, List.filter_cons_of_pos (by exact decide_eq_true c)]; rfl
  · rw [if_neg c, List.filter_cons_of_neg (by intro z; exact c (of_decide_eq_true z))]; simp
/-- a name in its place is an object, or new with room -/
def obN (σ0 : ga_S) (A B : Int → Int) (j : Int) : Prop := dN σ0 (nmT σ0 (A j) (B j)) 2 ≠ -1 ∨ (fnd σ0 (nmT σ0 (A j) (B j)) 0 = -1 ∧ nB σ0 (wL σ0 A B j) (nwS σ0 A B j) = true ∧ σ0 fW_objects 0 0 + ((nwS σ0 A B j).length : Int) < 24)
def LSo (x : Int) (σ0 τ0 : ga_S) (f : Int) (N : Nat) (A B : Int → Int) (σ τ : ga_S) (c k mC nM : Int) : Prop := KC σ0 σ ∧ KM τ0 τ ∧ FT σ (min x c) ∧ GT τ c ∧ nwO σ0 N σ ∧ nwQ σ0 τ0 f N τ ∧ sameN σ0 (nwC σ0 σ) (nwM σ0 τ0 f τ) ∧ nwC σ0 σ = nwS σ0 A B k ∧ (σ fR_newNames 0 0 = mC ∧ mC = ((nwS σ0 A B k).length : Int) ∧ mC ≤ k) ∧ τ fM_news 0 0 ≤ k ∧ (nM = σ0 fW_objects 0 0 + mC ∨ ∃ j, 0 ≤ j ∧ j < k ∧ c ≤ cd σ0 (A j) 1) ∧ (0 ≤ nM ∧ nM ≤ σ0 fW_objects 0 0 + mC) ∧ (c = 1000000 → ∀ j, 0 ≤ j → j < k → obN σ0 A B j)
/-- the code of a name -/
def obC (σ0 : ga_S) (nm : List Int) (g : Bool) (hv a : Int) : Int := if fnd σ0 nm 0 = -1 then nwCd σ0 g hv 24 a else if dN σ0 nm 2 = -1 then cd σ0 a 2 else 1000000
theorem LSo_step {x : Int} (E : E0 σ0 τ0 f N) {A B R : Int → Int} {n : Int} (hL : LST σ0 τ0 f N A B R n) {σ τ : ga_S} {c k mC nM : Int} (h : LSo x σ0 τ0 f N A B σ τ c k mC nM) (h0 : 0 ≤ k) (hk : k < n) (hA : A k = σ fR_nameFrom 0 k ∧ B k = σ fR_nameTo 0 k) (many : Int) (hmany : k < many) {d d' : Nat} (hd : 5 ≤ d) (hd' : 5 ≤ d') (hl : τ fM_listFrom 0 0 = 0 ∧ k < τ fM_listSize 0 0) (hR : R k = k) : ∃ (σ' τ' : ga_S) (c' mC' nM' : Int), r_objectsOrNew_5 d σ 1 many mC k = r_objectsOrNew_5 d σ' 1 many mC' (k + 1) ∧ m_objectsOrNew_7 d' τ nM k = m_objectsOrNew_7 d' τ' nM' (k + 1) ∧ fr nwL σ σ' ∧ fr mbN τ τ' ∧ LSo x σ0 τ0 f N A B σ' τ' c' (k + 1) mC' nM' := by
  obtain ⟨l1, l2, l3, l4, l5, l6, l7, l8, l9, l10, l11, l12, l13⟩ := h
  obtain ⟨hRU, hAB⟩ := hL.2.1 k h0 hk
  rw [hR] at hRU
  have hn := hL.1
  have wo := e0_o E
  have wo1 := wo.1
  have wo2 := wo.2.1
  have t := frB_t hRU.2.2.2
  have le := GT_le l4
  obtain ⟨nm, enm⟩ : ∃ x, x = nmT σ0 (A k) (B k) := ⟨_, rfl⟩
  have D := dS_1 E.2.2.1 nm
  have snoc := nwS_s (σ0 := σ0) A B h0
  rw [← enm] at snoc
  -- the component's first steps
  obtain ⟨σ1, a1, a2, a3⟩ := k_spell E l1 hRU.2.2.2 (d := d) (by omega)
  rw [← enm] at a3
  have K1 := KC_f l1 a2 (by decide)
  have F1 := FT_f l3 a2 (by decide)
  have so := k_sort E K1 a3 (d := d) (by omega)
  have O1 : nwO σ0 N σ1 := by unfold nwO; rw [a2 _ (by decide), a2 _ (by decide), a2 _ (by decide)]; exact l5
  have S1 : nwC σ0 σ1 = nwC σ0 σ := by unfold nwC; rw [a2 _ (by decide), a2 _ (by decide), a2 _ (by decide)]
  have nF : σ1 fR_nameFrom 0 k = A k ∧ σ1 fR_nameTo 0 k = B k := by rw [a2 _ (by decide), a2 _ (by decide)]; exact ⟨hA.1.symm, hA.2.symm⟩
  have cb : r_objectsOrNew_5 d σ 1 many mC k = (if dS σ0 nm = -1 then (c_r_isNew d σ1 (A k) (B k) (σ0 fW_objects 0 0 + mC) 24).bind (fun q3 => r_objectsOrNew_5 d q3.2 1 many (mC + 1) (k + 1)) else r_objectsOrNew_90 d σ1 1 many mC k (dS σ0 nm)) := by
    rw [e_r_objectsOrNew_5, if_pos hmany, ck_ok _ (by omega), ck_ok _ (by omega), ← hA.1, ← hA.2, a1]
    simp only [Option.bind_some]
    rw [so]
    simp only [Option.bind_some]
    by_cases z : dS σ0 nm = -1
    · rw [if_pos z, if_pos z, if_neg (by decide), ck_ok _ (by omega), ck_ok _ (by omega), nF.1, nF.2, K1.1 fW_objects (by decide), w32_ok (x := σ0 fW_objects 0 0 + mC) (by omega)]
      congr 1
      funext q
      rw [e_r_objectsOrNew_108, w32_ok (x := mC + 1) (by omega), w32_ok (x := k + 1) (by omega)]
    · rw [if_neg z, if_neg z]
  -- the model's first steps
  have mr := m_meansRun E l2 hRU.2.2.2 hRU.1 hRU.2.1 hRU.2.2.1 (d := d') (by omega) 4
  rw [mN_dN (s := 2) (by omega), ← enm] at mr
  have mn := m_meansNothing E l2 hRU (d := d') (by omega)
  rw [← enm] at mn
  have mb : m_objectsOrNew_7 d' τ nM k = (if dN σ0 nm 2 = -1 then (if fnd σ0 nm 0 = -1 then (c_m_isNew d' τ k).bind (fun q4 => (c_m_mustBeNew d' q4.2 k nM 24).bind fun q5 => if q4.1 = 0 then m_objectsOrNew_69 d' q5.2 k 0 nM else m_objectsOrNew_69 d' q5.2 k 1 nM) else (c_m_note d' τ 4 (f + A k)).bind (fun q3 => m_objectsOrNew_7 d' q3.2 nM (k + 1))) else m_objectsOrNew_7 d' τ nM (k + 1)) := by
    rw [e_m_objectsOrNew_7, if_pos hl.2, hl.1, Int.zero_add, w32_ok (x := k) (by omega), mr]
    simp only [Option.bind_some]
    by_cases z : dN σ0 nm 2 = -1
    · rw [if_pos z, if_pos z, mn]
      simp only [Option.bind_some]
      by_cases y : fnd σ0 nm 0 = -1
      · rw [if_pos y, decide_eq_true y, if_neg b2i_n]
      · rw [if_neg y, decide_eq_false y, if_pos b2i_f, ck_ok _ (by omega), l2 fM_runFrom (by decide), hRU.2.1]
        congr 1
        funext q
        rw [e_m_objectsOrNew_85, w32_ok (x := k + 1) (by omega)]
    · rw [if_neg z, if_neg z, e_m_objectsOrNew_85, w32_ok (x := k + 1) (by omega)]
  rw [cb, mb]
  by_cases z : fnd σ0 nm 0 = -1
  · -- it means nothing
    have dn : dN σ0 nm 2 = -1 := by unfold dN; rw [if_pos (Or.inl z)]
    obtain ⟨σ2, b1, b2, b3, b4, b5, b6, b7⟩ := k_isNew E K1 F1 O1 (by rw [a2 _ (by decide)]; omega) hRU.2.2.2 (σ0 fW_objects 0 0 + mC) 24 (d := d) (by omega)
    obtain ⟨τ2, c1, c2, c3, c4, c5, c6, c7⟩ := m_mustBeNew E l2 l4 l6 (by omega) hRU nM 24 (d := d') (by omega)
    have isn := m_isNew E l2 l6 (by omega) hRU (d := d') (by omega)
    have sm := l7 (wsT σ0 0 (A k) (B k))
    obtain ⟨g, eg⟩ : ∃ g, g = nB σ0 (wsT σ0 0 (A k) (B k)) (nwM σ0 τ0 f τ) := ⟨_, rfl⟩
    rw [S1, sm, ← eg] at b4
    have b4 : FT σ2 (min (min x c) (nwCd σ0 g (σ0 fW_objects 0 0 + mC) 24 (A k))) := b4
    rw [show min (min x c) (nwCd σ0 g (σ0 fW_objects 0 0 + mC) 24 (A k)) = min x (min c (nwCd σ0 g (σ0 fW_objects 0 0 + mC) 24 (A k))) by omega] at b4
    rw [← eg] at c4 c7 isn
    have x1' := nwCd_r E.2.1 g (σ0 fW_objects 0 0 + mC) 24 t
    have x2' := nwCd_r E.2.1 g nM 24 t
    have ceq : min c (nwCd σ0 g (σ0 fW_objects 0 0 + mC) 24 (A k)) = min c (nwCd σ0 g nM 24 (A k)) := by
      rcases l11 with e | ⟨j, j0, j1, j2⟩
      · rw [e]
      · have := LST_cd E hL j0 j1 hk
        omega
    have c4' : GT τ2 (min c (nwCd σ0 g nM 24 (A k))) := c4
    rw [← ceq] at c4'
    have smn : sameN σ0 (nwC σ0 σ2) (nwM σ0 τ0 f τ2) := by
      rw [b7, c7, eg, S1]
      exact sameN_s l7 _
    rw [if_pos z] at snoc
    rw [if_pos (D.1.mpr z), if_pos dn, if_pos z, b1, isn]
    simp only [Option.bind_some]
    rw [c1]
    simp only [Option.bind_some]
    refine ⟨σ2, τ2, min c (nwCd σ0 g (σ0 fW_objects 0 0 + mC) 24 (A k)), mC + 1, nM + b2i g, rfl, ?_, fr_trans (fr_sub a2 (by decide)) b2, c2, b3, c3, b4, c4', b5, c5, smn, by rw [b7, S1, l8, snoc]; rfl, ⟨by rw [b6, a2 _ (by decide)]; omega, by rw [snoc, List.length_append]; simp; omega, by omega⟩, by omega, ?_, ?_, fun w j j0 j1 => ?_⟩
    · cases g with
      | true => rw [if_neg b2i_n, e_m_objectsOrNew_69, e_m_objectsOrNew_85, w32_ok (x := nM + 1) (by omega), w32_ok (x := k + 1) (by omega)]; rfl
      | false => rw [if_pos b2i_f, e_m_objectsOrNew_69, e_m_objectsOrNew_85, w32_ok (x := nM + 0) (by omega), w32_ok (x := k + 1) (by omega)]; rfl
    · cases hg : g with
      | true =>
        rcases l11 with e | ⟨j, j0, j1, j2⟩
        · left; rw [e, b2i_t]; omega
        · right; exact ⟨j, j0, by omega, by omega⟩
      | false =>
        right
        refine ⟨k, h0, by omega, ?_⟩
        show min c (if false = true then _ else cd σ0 (A k) 1) ≤ _
        rw [if_neg (by decide)]
        omega
    · have := b2i_01 g
      omega
    · have z1 := no_min rfl w le
      have y := nwCd_1 E.2.1 t z1.2
      by_cases q : j = k
      · rw [q]
        refine Or.inr ⟨by rw [← enm]; exact z, ?_, by rw [← l9.2.1]; exact y.2⟩
        rw [← l8, show wL σ0 A B k = wsT σ0 0 (A k) (B k) from rfl, sm, ← eg]; exact y.1
      · exact l13 z1.1 j j0 (by omega)
  · rw [if_neg z] at snoc
    have l11' : ∀ c' : Int, c' ≤ c → (nM = σ0 fW_objects 0 0 + mC ∨ ∃ j, 0 ≤ j ∧ j < k + 1 ∧ c' ≤ cd σ0 (A j) 1) := by
      intro c' hc'
      rcases l11 with e | ⟨j, j0, j1, j2⟩
      · exact Or.inl e
      · exact Or.inr ⟨j, j0, by omega, by omega⟩
    rw [if_neg (fun y => z (D.1.mp y)), e_r_objectsOrNew_90]
    by_cases y : dN σ0 nm 2 = -1
    · -- it means something else
      obtain ⟨σ2, b1, b2, b3⟩ := k_note E.2.1 E.1.2.2.1 K1 F1 (t := A k) (r := 2) (why := 4) t (by omega) (by decide) (d := d) (by omega)
      obtain ⟨τ2, c1, c2, c3⟩ := m_note E.2.1 ⟨E.1.1, E.1.2.1⟩ l2 l4 (t := A k) (t' := f + A k) (r := 2) (why := 4) t rfl (by omega) (by decide) (d := d') (by omega)
      have w3 := cd_r E.2.1 t (r := 2) (by omega)
      rw [show min (min x c) (cd σ0 (A k) 2) = min x (min c (cd σ0 (A k) 2)) by omega] at b3
      rw [if_neg (fun w => (D.2 2 (by decide)).mp w y), ck_ok _ (by omega), nF.1, b1, if_pos y, if_neg z, c1]
      simp only [Option.bind_some]
      have f12 : fr ndL σ σ2 := fr_trans (fr_sub a2 (by decide)) (fr_sub b2 (by decide))
      refine ⟨σ2, τ2, _, mC, nM, ?_, rfl, fr_sub f12 (by decide), fr_sub c2 (by decide), KC_f K1 b2 (by decide), KM_f l2 c2 (by decide), b3, c3, ?_, ?_, ?_, ?_, ?_, ?_, l11' _ (by omega), l12, fun w => ?_⟩
      · rw [e_r_objectsOrNew_108, w32_ok (x := k + 1) (by omega)]
      · unfold nwO; rw [f12 _ (by decide), f12 _ (by decide), f12 _ (by decide)]; exact l5
      · unfold nwQ; rw [c2 _ (by decide), c2 _ (by decide)]; exact l6
      · have e1 : nwC σ0 σ2 = nwC σ0 σ := by unfold nwC; rw [f12 _ (by decide), f12 _ (by decide), f12 _ (by decide)]
        have e2 : nwM σ0 τ0 f τ2 = nwM σ0 τ0 f τ := by unfold nwM; rw [c2 _ (by decide), c2 _ (by decide)]
        rw [e1, e2]; exact l7
      · rw [snoc, ← l8]; unfold nwC; rw [f12 _ (by decide), f12 _ (by decide), f12 _ (by decide)]
      · rw [snoc, f12 _ (by decide)]; exact ⟨l9.1, l9.2.1, by omega⟩
      · rw [c2 _ (by decide)]; omega
      · omega
    · rw [if_pos ((D.2 2 (by decide)).mpr y), if_neg y]
      refine ⟨σ1, τ, c, mC, nM, ?_, rfl, fr_sub a2 (by decide), fr_refl _ _, K1, l2, F1, l4, O1, l6, by rw [S1]; exact l7, by rw [S1, snoc]; exact l8, ?_, by omega, l11' c (Int.le_refl _), l12, fun w j j0 j1 => ?_⟩
      · rw [e_r_objectsOrNew_108, w32_ok (x := k + 1) (by omega)]
      · rw [snoc, a2 _ (by decide)]; exact ⟨l9.1, l9.2.1, by omega⟩
      · by_cases q : j = k
        · rw [q]; exact Or.inl (by rw [← enm]; exact y)
        · exact l13 w j j0 (by omega)
theorem LSo_loop {x : Int} (E : E0 σ0 τ0 f N) {R : Int → Int} {n : Int} (hL : LST σ0 τ0 f N (fun k => σ0 fR_nameFrom 0 k) (fun k => σ0 fR_nameTo 0 k) R n) (hR : ∀ k, R k = k) (hl : τ0 fM_listFrom 0 0 = 0 ∧ τ0 fM_listSize 0 0 = n) {d d' : Nat} (hd : 5 ≤ d) (hd' : 5 ≤ d') : ∀ k, 0 ≤ k → k ≤ n → ∀ σ τ c mC nM, σ fR_nameFrom = σ0 fR_nameFrom → σ fR_nameTo = σ0 fR_nameTo → LSo x σ0 τ0 f N (fun k => σ0 fR_nameFrom 0 k) (fun k => σ0 fR_nameTo 0 k) σ τ c k mC nM → ∃ σ' τ' c' mC' nM', r_objectsOrNew_5 d σ 1 n mC k = some (0, σ') ∧ m_objectsOrNew_7 d' τ nM k = some (0, τ') ∧ fr nwL σ σ' ∧ fr mbN τ τ' ∧ LSo x σ0 τ0 f N (fun k => σ0 fR_nameFrom 0 k) (fun k => σ0 fR_nameTo 0 k) σ' τ' c' n mC' nM' := by
  refine rg_ind (n := n) ?_ ?_
  · intro k h h0 h1 σ τ c mC nM e1 e2 hLS
    have e : k = n := by omega
    subst e
    refine ⟨σ, τ, c, mC, nM, ?_, ?_, fr_refl _ _, fr_refl _ _, hLS⟩
    · rw [e_r_objectsOrNew_5, if_neg (by omega)]
    · rw [e_m_objectsOrNew_7, hLS.2.1 fM_listSize (by decide), hl.2, if_neg (by omega)]
  · intro k h ih h0 h1 σ τ c mC nM e1 e2 hLS
    obtain ⟨σ', τ', c', mC', nM', a1, a2, a3, a4, a5⟩ := LSo_step E hL hLS h0 h ⟨by rw [e1], by rw [e2]⟩ n h hd hd' ⟨by rw [hLS.2.1 _ (by decide)]; exact hl.1, by rw [hLS.2.1 _ (by decide), hl.2]; exact h⟩ (hR k)
    obtain ⟨σ'', τ'', c'', mC'', nM'', b1, b2, b3, b4, b5⟩ := ih (by omega) (by omega) σ' τ' c' mC' nM' (by rw [a3 _ (by decide)]; exact e1) (by rw [a3 _ (by decide)]; exact e2) a5
    exact ⟨σ'', τ'', c'', mC'', nM'', a1.trans b1, a2.trans b2, fr_trans a3 b3, fr_trans a4 b4, b5⟩
theorem LSo_0 {x : Int} {σ τ : ga_S} (K : KC σ0 σ) (M : KM τ0 τ) (hF : FT σ x) (hx : x ≤ 1000000) (hG : GT τ 1000000) (hq : σ fR_newNames 0 0 = 0) (hp : τ fM_news 0 0 = 0) {A B : Int → Int} (ho : 0 ≤ σ0 fW_objects 0 0) : LSo x σ0 τ0 f N A B σ τ 1000000 0 0 (σ0 fW_objects 0 0) := by
  have S1 : nwC σ0 σ = [] := by unfold nwC; rw [hq, rg_n (Int.le_refl _)]; rfl
  have T1 : nwM σ0 τ0 f τ = [] := by unfold nwM; rw [hp, rg_n (Int.le_refl _)]; rfl
  have e0 : nwS σ0 A B 0 = [] := by unfold nwS; rw [rg_n (Int.le_refl _)]; rfl
  refine ⟨K, M, by rw [show min x 1000000 = x by omega]; exact hF, hG, ?_, ?_, ?_, by rw [S1, e0], ⟨hq, by rw [e0]; rfl, Int.le_refl _⟩, by omega, Or.inl (by omega), by omega, fun _ j j0 j1 => by omega⟩
  · unfold nwO; rw [hq]; exact ⟨Int.le_refl _, fun k h1 h2 => by omega⟩
  · unfold nwQ; rw [hp]; exact ⟨Int.le_refl _, fun k h1 h2 => by omega⟩
  · rw [S1, T1]; exact sameN_0 σ0
/-- all names are objects, or new -/
theorem obs_all {x : Int} (E : E0 σ0 τ0 f N) {n : Int} (hn0 : 0 ≤ n) (hL : LST σ0 τ0 f N (fun k => σ0 fR_nameFrom 0 k) (fun k => σ0 fR_nameTo 0 k) (fun k => k) n) (hl : τ0 fM_listFrom 0 0 = 0 ∧ τ0 fM_listSize 0 0 = n) {σ τ : ga_S} (K : KC σ0 σ) (M : KM τ0 τ) (hF : FT σ x) (hG : GT τ 1000000) (hq : σ fR_newNames 0 0 = 0) (hp : τ fM_news 0 0 = 0) (h1 : σ fR_nameFrom = σ0 fR_nameFrom) (h2 : σ fR_nameTo = σ0 fR_nameTo) {d d' : Nat} (hd : 6 ≤ d) (hd' : 6 ≤ d') : ∃ σ' τ' c, c_r_objectsOrNew d σ 1 n = some (0, σ') ∧ c_m_objectsOrNew d' τ = some (0, τ') ∧ fr nwL σ σ' ∧ fr mbN τ τ' ∧ KC σ0 σ' ∧ KM τ0 τ' ∧ FT σ' (min x c) ∧ GT τ' c ∧ (c = 1000000 → ∀ j, 0 ≤ j → j < n → obN σ0 (fun k => σ0 fR_nameFrom 0 k) (fun k => σ0 fR_nameTo 0 k) j) := by
  obtain ⟨d, rfl⟩ : ∃ e, d = e + 1 := ⟨d - 1, by omega⟩
  obtain ⟨d', rfl⟩ : ∃ e, d' = e + 1 := ⟨d' - 1, by omega⟩
  have wo := e0_o E
  have L0 := LSo_0 (σ0 := σ0) (τ0 := τ0) (f := f) (N := N) K M hF (FT_le hF) hG hq hp (A := fun k => σ0 fR_nameFrom 0 k) (B := fun k => σ0 fR_nameTo 0 k) (by have := wo.1; omega)
  obtain ⟨σ', τ', c', mC', nM', a1, a2, a3, a4, a5⟩ := LSo_loop E hL (fun _ => rfl) hl (d := d) (d' := d') (by omega) (by omega) 0 (Int.le_refl _) hn0 σ τ _ _ _ h1 h2 L0
  obtain ⟨l1, l2, l3, l4, l5, l6, l7, l8, l9, l10, l11, l12, l13⟩ := a5
  refine ⟨σ', τ', c', ?_, ?_, a3, a4, l1, l2, l3, l4, l13⟩
  · rw [e_r_objectsOrNew, a1]
  · rw [e_m_objectsOrNew, M fM_objects (by decide), wo.2.2.1, a2]
end

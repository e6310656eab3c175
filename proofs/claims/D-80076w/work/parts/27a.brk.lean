/-! what stands in brackets: pure -/
def kx (B : Int → Int) (c a : Int) (j : Int) : Int := sK B true c a j.toNat
def wx (B : Int → Int) (c a : Int) (j : Int) : List Int := wdB B (sP B true c a j.toNat) (sE B true c a j.toNat - sP B true c a j.toNat)
def nx (B : Int → Int) (c a i j : Int) : List Int := jn ((rg i j).map (wx B c a))
def frK (k : Int → Int) (i j : Int) : Bool := (rg i j).all (fun q => decide (k q = 0))
def arK (k : Int → Int) (i j : Int) : Int := if i < j ∧ 9 ≤ k i ∧ k i ≤ 12 then 1 else 0
/-- a thing among the words from i to j -/
def inTh (σ0 : ga_S) (k : Int → Int) (nm : Int → Int → List Int) (nk i j : Int) : Int := if i < j ∧ k (j - 1) = 62 then (if (j - i = 1 ∨ (j - i = 2 ∧ k i = 11)) ∧ nk ≠ -1 then -3 else -1) else if frK k (i + arK k i j) j = true then dN σ0 (nm (i + arK k i j) j) 2 else -1
def ofK (k : Int → Int) (n : Int) : Int := sk (fun q => decide (k q ≠ 16)) n 0
def brV (σ0 : ga_S) (k : Int → Int) (nm : Int → Int → List Int) (nk n : Int) : Bool := if ofK k n = n then decide (inTh σ0 k nm nk 0 n ≠ -1) else if ofK k n < 2 ∨ k 0 ≠ 11 ∨ frK k 1 (ofK k n) = false then false else decide (inTh σ0 k nm nk (ofK k n + 1) n ≠ -1) && decide (dN σ0 (nm 1 (ofK k n)) 5 ≠ -1) && own σ0 (kdT σ0 (-1) nk (inTh σ0 k nm nk (ofK k n + 1) n)) (dN σ0 (nm 1 (ofK k n)) 5)
/-- where the tokens of a bracket end -/
def brN (B : Int → Int) (c a : Int) (N : Nat) : Prop := (sK B true c a N = 7 ∨ sK B true c a N = 8) ∧ ∀ j, j < N → sK B true c a j ≠ 7 ∧ sK B true c a j ≠ 8
theorem brN_u {B : Int → Int} {c a : Int} {N M : Nat} (h : brN B c a N) (g : brN B c a M) : N = M := by
  rcases Nat.lt_trichotomy N M with z | z | z
  · have := g.2 N z
    rcases h.1 with y | y
    · exact absurd y this.1
    · exact absurd y this.2
  · exact z
  · have := h.2 M z
    rcases g.1 with y | y
    · exact absurd y this.1
    · exact absurd y this.2
/-- the tokens for what is in brackets -/
def IN (σ0 : ga_S) : Prop := σ0 fR_inner 0 0 = 1 ∧ rAll σ0 1 ∧ σ0 fT_inText 1 0 = 0 ∧ σ0 fT_bytes 1 = σ0 fT_bytes 0 ∧ σ0 fT_size 1 0 = σ0 fT_size 0 0
theorem KC_t {σ0 σ σ' : ga_S} (K : KC σ0 σ) (h : fr inL σ σ') (ho : ∀ F v', v' ≠ 1 → σ' F v' = σ F v') : KC σ0 σ' := ⟨fr_trans K.1 (fr_sub h (by decide)), fun F hF => (ho F 0 (by decide)).trans (K.2.1 F hF), fun F hF n hn => by rw [fr_no h (M := stL) (by decide) hF]; exact K.2.2.1 F hF n hn, fun F hF n hn => by rw [fr_no h (M := quL) (by decide) hF]; exact K.2.2.2 F hF n hn⟩
theorem arK_r (k : Int → Int) (i j : Int) : 0 ≤ arK k i j ∧ arK k i j ≤ 1 ∧ (i ≤ j → i + arK k i j ≤ j) := by
  unfold arK
  split <;> omega
section
variable {σ0 τ0 : ga_S} {f : Int} {N : Nat}
theorem inTh_r (E : E0 σ0 τ0 f N) (k : Int → Int) (nm : Int → Int → List Int) (nk i j : Int) : inTh σ0 k nm nk i j = -1 ∨ thO σ0 (-1) nk (inTh σ0 k nm nk i j) := by
  unfold inTh
  by_cases c : i < j ∧ k (j - 1) = 62
  · rw [if_pos c]
    by_cases c2 : (j - i = 1 ∨ (j - i = 2 ∧ k i = 11)) ∧ nk ≠ -1
    · rw [if_pos c2]; exact Or.inr (Or.inr (Or.inl ⟨rfl, c2.2⟩))
    · rw [if_neg c2]; exact Or.inl rfl
  · rw [if_neg c]
    by_cases c2 : frK k (i + arK k i j) j = true
    · rw [if_pos c2]
      rcases e0_dN E (nm (i + arK k i j) j) 2 with h | h
      · exact Or.inl h
      · exact Or.inr (Or.inr (Or.inr ⟨h.1, h.2.1⟩))
    · rw [if_neg c2]; exact Or.inl rfl
/-- the component's inner tokens -/
def INT (σ0 : ga_S) (B : Int → Int) (c a : Int) (M : Nat) (σ : ga_S) : Prop := ∀ j : Nat, j ≤ M → σ fT_kinds 1 j = sK B true c a j ∧ σ fT_places 1 j = sP B true c a j ∧ σ fT_lengths 1 j = sE B true c a j - sP B true c a j
theorem INT_k {σ : ga_S} {B : Int → Int} {c a : Int} {M : Nat} (h : INT σ0 B c a M σ) {j : Int} (h0 : 0 ≤ j) (h1 : j ≤ M) : σ fT_kinds 1 j = kx B c a j := by
  have := (h j.toNat (by omega)).1
  rw [show ((j.toNat : Nat) : Int) = j by omega] at this
  exact this
theorem kx_0 (B : Int → Int) (c a j : Int) : 0 ≤ kx B c a j := (tkK_r (B := B) (x := true) (n := c)).1
theorem INT_f {σ σ' : ga_S} {B : Int → Int} {c a : Int} {M : Nat} (h : INT σ0 B c a M σ) {L : List Nat} (hf : fr L σ σ') (hL : fT_kinds ∉ L ∧ fT_places ∉ L ∧ fT_lengths ∉ L) : INT σ0 B c a M σ' := fun j hj => by
  rw [hf _ hL.1, hf _ hL.2.1, hf _ hL.2.2]
  exact h j hj
/-- spelling words of a bracket -/
theorem k_spell1 {σ : ga_S} (E : E0 σ0 τ0 f N) (I : IN σ0) (K : KC σ0 σ) {a c : Int} {M : Nat} (ha : 0 ≤ a) (hac : a ≤ c) (hc : c ≤ σ0 fT_size 0 0) (T : INT σ0 (σ0 fT_bytes 0) c a M σ) (hM : (M : Int) ≤ 5000) {i j : Int} (h0 : 0 ≤ i) (hij : i ≤ j) (hj : j ≤ M) {d : Nat} (hd : 2 ≤ d) : ∃ σ', c_d_spellT d σ 1 i j = some (0, σ') ∧ fr spL σ σ' ∧ AT σ' (nx (σ0 fT_bytes 0) c a i j) := by
  have eS : σ fT_size 1 0 = σ0 fT_size 0 0 := by rw [K.1 _ (by decide)]; exact I.2.2.2.2
  have eB : σ fT_bytes 1 = σ0 fT_bytes 0 := by rw [K.1 _ (by decide)]; exact I.2.2.2.1
  have sz := E.2.1.1.1
  obtain ⟨σ', e1, e2, e3⟩ := s_d_spellT (σ := σ) (d := d) hd (v := 1) (a := i) (b := j) (by decide) (by rw [eS]; exact sz) (fun q => by rw [eB]; exact E.2.1.1.2 q) (fun k h1 h2 => by
    have t := T k.toNat (by omega)
    rw [show ((k.toNat : Nat) : Int) = k by omega] at t
    have r := sP_r (B := σ0 fT_bytes 0) (x := true) (n := c) (a := a) ⟨ha, hac⟩ k.toNat
    unfold tIn
    rw [eS, t.2.1, t.2.2]
    exact ⟨by omega, by omega, r.1, by omega, by omega⟩) hij
  have ew : wsT σ 1 i j = (rg i j).map (wx (σ0 fT_bytes 0) c a) := by
    unfold wsT
    refine List.map_congr_left fun k hk => ?_
    have m := (rg_mem i).mp hk
    have t := T k.toNat (by omega)
    rw [show ((k.toNat : Nat) : Int) = k by omega] at t
    unfold wT wx
    rw [eB, t.2.1, t.2.2]
  rw [ew] at e3
  exact ⟨σ', e1, e2, e3⟩
theorem k_innerThing {σ : ga_S} (E : E0 σ0 τ0 f N) (I : IN σ0) (K : KC σ0 σ) {a c nk : Int} {M : Nat} (ha : 0 ≤ a) (hac : a ≤ c) (hc : c ≤ σ0 fT_size 0 0) (T : INT σ0 (σ0 fT_bytes 0) c a M σ) (hM : (M : Int) ≤ 5000) (hn : σ fR_nounKind 0 0 = nk) {i j : Int} (h0 : 0 ≤ i) (hij : i ≤ j) (hj : j ≤ M) {d : Nat} (hd : 4 ≤ d) : ∃ σ', c_r_innerThing d σ i j = some (inTh σ0 (kx (σ0 fT_bytes 0) c a) (nx (σ0 fT_bytes 0) c a) nk i j, σ') ∧ fr spL σ σ' ∧ KC σ0 σ' := by
  obtain ⟨d, rfl⟩ : ∃ e, d = e + 1 := ⟨d - 1, by omega⟩
  obtain ⟨k, ek⟩ : ∃ z, z = kx (σ0 fT_bytes 0) c a := ⟨_, rfl⟩
  have in1 : σ fR_inner 0 0 = 1 := by rw [K.1 _ (by decide)]; exact I.1
  have kk : ∀ q : Int, 0 ≤ q → q ≤ M → σ fT_kinds 1 q = k q := fun q x y => by rw [ek]; exact INT_k T x y
  have k0 : ∀ q, 0 ≤ k q := fun q => by rw [ek]; exact kx_0 _ _ _ _
  have nn1 : ∀ {ρ : Type} (x : Option ρ), ga_nn 1 x = x := fun x => nn_ok _ (by decide)
  rw [← ek]
  -- from a place on, all free
  have lp : ∀ v3, ∀ q, 0 ≤ q → r_innerThing_107 d σ j v3 q = if frK k q j = true then (if v3 < j then (c_d_spellT d σ 1 v3 j).bind fun q2 => (c_d_of d q2.2 2).bind fun q3 => some (q3.1, q3.2) else some (-1, σ)) else some (-1, σ) := by
    intro v3
    refine rg_ind (n := j) (fun q hq _ => ?_) (fun q hq ih h0 => ?_)
    · rw [e_r_innerThing_107, if_neg (by omega), in1]
      unfold frK
      rw [rg_all0 hq, if_pos rfl]
    · have e : frK k q j = (decide (k q = 0) && frK k (q + 1) j) := by unfold frK; rw [rg_all hq]
      rw [e_r_innerThing_107, if_pos hq, in1, nn1, nn1, ck_ok _ (by omega), kk q h0 (by omega)]
      by_cases z : k q = 0
      · rw [decide_eq_true z, Bool.true_and] at e
        rw [if_pos z, w32_ok (by omega), ih (by omega), e]
      · rw [decide_eq_false z, Bool.false_and] at e
        rw [if_neg z, e, if_neg (by decide)]
  have ar := arK_r k i j
  obtain ⟨A, eA⟩ : ∃ z, z = i + arK k i j := ⟨_, rfl⟩
  obtain ⟨σ', go, g2, g3⟩ : ∃ σ', r_innerThing_107 d σ j A A = some (if frK k A j = true then dN σ0 (nx (σ0 fT_bytes 0) c a A j) 2 else -1, σ') ∧ fr spL σ σ' ∧ KC σ0 σ' := by
    rw [lp A A (by omega)]
    by_cases z : frK k A j = true
    · rw [if_pos z, if_pos z]
      by_cases y : A < j
      · obtain ⟨σ1, x1, x2, x3⟩ := k_spell1 E I K ha hac hc T hM (i := A) (j := j) (by omega) (by omega) hj (d := d) (by omega)
        have K1 := KC_f K x2 (by decide)
        rw [if_pos y, x1]
        simp only [Option.bind_some]
        rw [k_of E K1 x3 (by omega)]
        exact ⟨σ1, rfl, x2, K1⟩
      · have e : nx (σ0 fT_bytes 0) c a A j = [] := by unfold nx; rw [rg_n (by omega)]; rfl
        rw [if_neg y, e, dN_nil E]
        exact ⟨σ, rfl, fr_refl _ _, K⟩
    · rw [if_neg z, if_neg z]
      exact ⟨σ, rfl, fr_refl _ _, K⟩
  have s76 : r_innerThing_76 d σ i j = r_innerThing_107 d σ j A A := by
    rw [e_r_innerThing_76]
    unfold arK at eA
    by_cases y : i < j
    · rw [if_pos y, in1, nn1, nn1, ck_ok _ (by omega), kk i h0 (by omega), nn_ok _ (k0 i), s_k_isArticle (by omega)]
      simp only [Option.bind_some]
      by_cases z : 9 ≤ k i ∧ k i ≤ 12
      · rw [if_pos ⟨y, z⟩] at eA
        rw [decide_eq_true z, if_neg b2i_n, e_r_innerThing_102, w32_ok (by omega), ← eA]
      · rw [if_neg (fun w => z w.2)] at eA
        rw [decide_eq_false z, if_pos b2i_f, e_r_innerThing_101, e_r_innerThing_102, w32_ok (by omega), ← eA]
    · rw [if_neg (fun w => y w.1)] at eA
      rw [if_neg y, e_r_innerThing_101, e_r_innerThing_102, w32_ok (by omega), ← eA]
  have pl : ¬ (i < j ∧ k (j - 1) = 62) → inTh σ0 k (nx (σ0 fT_bytes 0) c a) nk i j = if frK k A j = true then dN σ0 (nx (σ0 fT_bytes 0) c a A j) 2 else -1 := by
    intro z
    unfold inTh
    rw [if_neg z, ← eA]
  rw [e_r_innerThing]
  by_cases y : i < j
  · rw [if_pos y, in1, nn1, nn1, w32_ok (by omega), ck_ok _ (by omega), kk (j - 1) (by omega) (by omega)]
    by_cases z : k (j - 1) = 62
    · have ev : inTh σ0 k (nx (σ0 fT_bytes 0) c a) nk i j = if (j - i = 1 ∨ (j - i = 2 ∧ k i = 11)) ∧ nk ≠ -1 then -3 else -1 := by unfold inTh; rw [if_pos ⟨y, z⟩]
      have no : r_innerThing_55 d σ = some (-1, σ) := by rw [e_r_innerThing_55, e_r_innerThing_56, if_pos rfl]
      have ye : r_innerThing_51 d σ = some (if nk ≠ -1 then -3 else -1, σ) := by
        rw [e_r_innerThing_51, e_r_innerThing_56, if_neg (by decide), hn]
        by_cases w : nk = -1
        · rw [if_pos w, if_neg (fun v => v w)]
        · rw [if_neg w, if_pos w]
      have e1 : ∀ p : Prop, ∀ [Decidable p], p → (if p ∧ nk ≠ -1 then (-3 : Int) else -1) = if nk ≠ -1 then -3 else -1 := by
        intro p _ hp
        by_cases w : nk ≠ -1
        · rw [if_pos ⟨hp, w⟩, if_pos w]
        · rw [if_neg (fun v => w v.2), if_neg w]
      refine ⟨σ, ?_, fr_refl _ _, K⟩
      rw [if_pos z, ev, w32_ok (by omega)]
      by_cases n1 : j - i = 1
      · rw [if_pos n1, ye, e1 _ (Or.inl n1)]
      · rw [if_neg n1]
        by_cases n2 : j - i = 2
        · rw [if_pos n2, nn1, nn1, ck_ok _ (by omega), kk i h0 (by omega)]
          by_cases w : k i = 11
          · rw [if_pos w, ye, e1 _ (Or.inr ⟨n2, w⟩)]
          · rw [if_neg w, no, if_neg (fun v => v.1.elim n1 (fun u => w u.2))]
        · rw [if_neg n2, no, if_neg (fun v => v.1.elim n1 (fun u => n2 u.1))]
    · rw [if_neg z, s76, go, pl (fun w => z w.2)]
      exact ⟨σ', rfl, g2, g3⟩
  · rw [if_neg y, s76, go, pl (fun w => y w.1)]
    exact ⟨σ', rfl, g2, g3⟩
def bkL : List Nat := inL ++ spL
theorem k_isBracket {σ : ga_S} (E : E0 σ0 τ0 f N) (I : IN σ0) (K : KC σ0 σ) {a c ik nk : Int} {M : Nat} (ha : 0 ≤ a) (hac : a ≤ c) (hc : c ≤ σ0 fT_size 0 0) (hN : brN (σ0 fT_bytes 0) c a M) (hI : σ fR_itKind 0 0 = ik) (hn : σ fR_nounKind 0 0 = nk) (kN : kO σ0 nk) {d : Nat} (hd : 5 ≤ d) : ∃ σ', c_r_isBracket d σ a c = some (b2i (decide (sK (σ0 fT_bytes 0) true c a M = 8) && brV σ0 (kx (σ0 fT_bytes 0) c a) (nx (σ0 fT_bytes 0) c a) nk M), σ') ∧ fr bkL σ σ' ∧ KC σ0 σ' := by
  obtain ⟨d, rfl⟩ : ∃ e, d = e + 1 := ⟨d - 1, by omega⟩
  have sz := E.2.1.1.1
  have in0 : σ fR_inner 0 0 = 1 := by rw [K.1 _ (by decide)]; exact I.1
  have eB : σ fT_bytes 1 = σ0 fT_bytes 0 := by rw [K.1 _ (by decide)]; exact I.2.2.2.1
  have nn1 : ∀ {ρ : Type} (x : Option ρ), ga_nn 1 x = x := fun x => nn_ok _ (by decide)
  have aR : rAll σ 1 := by unfold rAll; rw [K.1 fT_all (by decide)]; exact I.2.1
  have iT : σ fT_inText 1 0 = 0 := by rw [K.1 fT_inText (by decide)]; exact I.2.2.1
  obtain ⟨σ1, M', x1, x2, x3, x4, x5, x6, x7, x8, x9⟩ := s_t_inside (σ := σ) (d := d) (by omega) (v := 1) (a := a) (n := c) (by decide) aR iT ha hac (by omega)
  rw [eB] at x6 x7 x8 x9
  have eM : M = M' := brN_u hN ⟨x6, x7⟩
  rw [← eM] at x4 x5 x6 x7 x8 x9
  clear eM M'
  have K1 : KC σ0 σ1 := KC_t K x2 x3
  have T1 : INT σ0 (σ0 fT_bytes 0) c a M σ1 := x8
  have in1 : σ1 fR_inner 0 0 = 1 := by rw [x2 _ (by decide)]; exact in0
  have hI1 : σ1 fR_itKind 0 0 = ik := by rw [x2 _ (by decide)]; exact hI
  have hn1 : σ1 fR_nounKind 0 0 = nk := by rw [x2 _ (by decide)]; exact hn
  have p0 := (sP_r (B := σ0 fT_bytes 0) (x := true) (n := c) (a := a) ⟨ha, hac⟩ M).1
  have hM : (M : Int) ≤ 5000 := by omega
  obtain ⟨k, ek⟩ : ∃ z, z = kx (σ0 fT_bytes 0) c a := ⟨_, rfl⟩
  obtain ⟨nm, enm⟩ : ∃ z, z = nx (σ0 fT_bytes 0) c a := ⟨_, rfl⟩
  have kk : ∀ q : Int, 0 ≤ q → q ≤ M → σ1 fT_kinds 1 q = k q := fun q x y => by rw [ek]; exact INT_k T1 x y
  rw [e_r_isBracket, in0, nn1, x1]
  simp only [Option.bind_some]
  rw [in1, nn1, nn1, x9, x4]
  by_cases w7 : sK (σ0 fT_bytes 0) true c a M = 7
  · rw [if_pos w7, if_neg (by omega), decide_eq_false (by omega), Bool.false_and]
    exact ⟨σ1, rfl, fr_sub x2 (by decide), K1⟩
  · have w8 : sK (σ0 fT_bytes 0) true c a M = 8 := hN.1.resolve_left w7
    rw [if_neg w7, if_pos rfl, decide_eq_true w8, Bool.true_and, show ((M + 1 : Nat) : Int) - 1 = (M : Int) by push_cast; omega, w32_ok (by omega), ← ek, ← enm]
    have l35 : ∀ q, 0 ≤ q → r_isBracket_35 d σ1 M q = r_isBracket_63 d σ1 M (sk (fun q => decide (k q ≠ 16)) M q) := by
      refine pos_ind (M : Int) fun q ih h0 => ?_
      rw [e_r_isBracket_35]
      by_cases y : q < (M : Int)
      · rw [if_pos y, in1, nn1, nn1, ck_ok _ (by omega), kk q h0 (by omega)]
        by_cases z : k q = 16
        · rw [if_pos z, sk_x y (decide_eq_false (fun v => v z))]
        · rw [if_neg z, w32_ok (by omega), ih (q + 1) (by omega) y (by omega), sk_s y (decide_eq_true z)]
      · rw [if_neg y, sk_n (by omega)]
    rw [l35 0 (Int.le_refl _)]
    have eo : sk (fun q => decide (k q ≠ 16)) (M : Int) 0 = ofK k M := rfl
    rw [eo, e_r_isBracket_63]
    have so := sk_all (f := fun q => decide (k q ≠ 16)) (n := (M : Int)) 0
    rw [eo] at so
    unfold brV
    by_cases o : ofK k M = M
    · rw [if_pos o, if_pos o]
      obtain ⟨σ2, y1, y2, y3⟩ := k_innerThing E I K1 ha hac hc T1 hM hn1 (i := 0) (j := M) (Int.le_refl _) (by omega) (Int.le_refl _) (d := d) (by omega)
      rw [← ek, ← enm] at y1
      rw [y1]
      simp only [Option.bind_some]
      refine ⟨σ2, ?_, fr_trans (fr_sub x2 (by decide)) (fr_sub y2 (by decide)), y3⟩
      by_cases z : inTh σ0 k nm nk 0 M = -1
      · rw [if_pos z, decide_eq_false (fun v => v z)]; rfl
      · rw [if_neg z, decide_eq_true z]; rfl
    · rw [if_neg o, if_neg o]
      have ol : ofK k M ≤ M := so.2.1 (by omega)
      by_cases o2 : ofK k M < 2
      · rw [if_pos o2, if_pos (Or.inl o2)]
        exact ⟨σ1, rfl, fr_sub x2 (by decide), K1⟩
      · rw [if_neg o2, in1, nn1, nn1, kk 0 (Int.le_refl _) (by omega)]
        by_cases o3 : k 0 = 11
        · rw [if_pos o3]
          have l111 : ∀ q, 0 ≤ q → r_isBracket_111 d σ1 M (ofK k M) q = if frK k q (ofK k M) = true then r_isBracket_111 d σ1 M (ofK k M) (ofK k M) else some (0, σ1) := by
            refine rg_ind (n := ofK k M) (fun q hq _ => ?_) (fun q hq ih h0 => ?_)
            · unfold frK
              rw [rg_all0 hq, if_pos rfl, e_r_isBracket_111, if_neg (by omega), e_r_isBracket_111, if_neg (by omega)]
            · have e : frK k q (ofK k M) = (decide (k q = 0) && frK k (q + 1) (ofK k M)) := by unfold frK; rw [rg_all hq]
              rw [e_r_isBracket_111, if_pos hq, in1, nn1, nn1, ck_ok _ (by omega), kk q h0 (by omega)]
              by_cases z : k q = 0
              · rw [decide_eq_true z, Bool.true_and] at e
                rw [if_pos z, w32_ok (by omega), ih (by omega), e]
              · rw [decide_eq_false z, Bool.false_and] at e
                rw [if_neg z, e, if_neg (by decide)]
          rw [l111 1 (by decide)]
          by_cases o4 : frK k 1 (ofK k M) = true
          · rw [if_pos o4, if_neg (fun v => by rcases v with v | v | v; exact o2 v; exact v o3; rw [o4] at v; cases v)]
            obtain ⟨σ2, y1, y2, y3⟩ := k_innerThing E I K1 ha hac hc T1 hM hn1 (i := ofK k M + 1) (j := M) (by omega) (by omega) (Int.le_refl _) (d := d) (by omega)
            rw [← ek, ← enm] at y1
            have T2 := INT_f T1 y2 (by decide)
            have in2 : σ2 fR_inner 0 0 = 1 := by rw [y2 _ (by decide)]; exact in1
            obtain ⟨σ3, z1, z2, z3⟩ := k_spell1 E I y3 ha hac hc T2 hM (i := 1) (j := ofK k M) (by decide) (by omega) ol (d := d) (by omega)
            rw [← enm] at z3
            have K3 := KC_f y3 z2 (by decide)
            have f3 : fr bkL σ σ3 := fr_trans (fr_sub x2 (by decide)) (fr_trans (fr_sub y2 (by decide)) (fr_sub z2 (by decide)))
            have tr := inTh_r E k nm nk (ofK k M + 1) M
            have pr := e0_dN E (nm 1 (ofK k M)) 5
            have m5 : mxN σ0 5 = σ0 fW_properties 0 0 := rfl
            have wp2 := (e0_p E).2.1
            have wk := e0_k E
            rw [e_r_isBracket_111, if_neg (by omega), w32_ok (by omega), y1]
            simp only [Option.bind_some]
            rw [in2, z1]
            simp only [Option.bind_some]
            rw [k_of E K3 z3 (by omega)]
            simp only [Option.bind_some]
            refine ⟨σ3, ?_, f3, K3⟩
            by_cases t1 : inTh σ0 k nm nk (ofK k M + 1) M = -1
            · rw [if_pos t1, decide_eq_false (p := inTh σ0 k nm nk (ofK k M + 1) M ≠ -1) (fun v => v t1), Bool.false_and, Bool.false_and]; rfl
            · rw [if_neg t1, decide_eq_true (p := inTh σ0 k nm nk (ofK k M + 1) M ≠ -1) t1, Bool.true_and]
              by_cases t2 : dN σ0 (nm 1 (ofK k M)) 5 = -1
              · rw [if_pos t2, decide_eq_false (p := dN σ0 (nm 1 (ofK k M)) 5 ≠ -1) (fun v => v t2), Bool.false_and]; rfl
              · have tv := tr.resolve_left t1
                have tv' : thO σ0 ik nk (inTh σ0 k nm nk (ofK k M + 1) M) := by
                  rcases tv with u | u | u
                  · exact absurd rfl u.2
                  · exact Or.inr (Or.inl u)
                  · exact Or.inr (Or.inr u)
                have ekd : kdT σ0 ik nk (inTh σ0 k nm nk (ofK k M + 1) M) = kdT σ0 (-1) nk (inTh σ0 k nm nk (ofK k M + 1) M) := by
                  have v2 : inTh σ0 k nm nk (ofK k M + 1) M ≠ -2 := by
                    rcases tv with u | u | u
                    · exact absurd rfl u.2
                    · omega
                    · omega
                  unfold kdT
                  rw [if_neg v2, if_neg v2]
                have kr := kdT_r E (ik := -1) (nk := nk) (Or.inl rfl) kN tv
                have hF : FO (σ3 fW_parents 0) (σ0 fW_kinds 0 0) := by rw [K3.1 _ (by decide)]; exact wk.1
                rw [if_neg t2, decide_eq_true (p := dN σ0 (nm 1 (ofK k M)) 5 ≠ -1) t2, Bool.true_and, k_kindOf E K3 (by rw [z2 _ (by decide), y2 _ (by decide)]; exact hI1) (by rw [z2 _ (by decide), y2 _ (by decide)]; exact hn1) tv' (by omega), ekd]
                simp only [Option.bind_some]
                rw [s_w_owns hF (by omega) (by omega) (by omega) kr.2, own_K K3]
                simp only [Option.bind_some]
                cases own σ0 (kdT σ0 (-1) nk (inTh σ0 k nm nk (ofK k M + 1) M)) (dN σ0 (nm 1 (ofK k M)) 5) with
                | false => rw [if_pos b2i_f]; rfl
                | true => rw [if_neg b2i_n]; rfl
          · rw [if_neg o4, if_pos (Or.inr (Or.inr (b_false o4)))]
            exact ⟨σ1, rfl, fr_sub x2 (by decide), K1⟩
        · rw [if_neg o3, if_pos (Or.inr (Or.inl o3))]
          exact ⟨σ1, rfl, fr_sub x2 (by decide), K1⟩
end

/-! what is said, on both sides: pieces -/
section
variable {σ τ σ' τ' : ga_S}
def apC9 : List Nat := sxC ++ aqC ++ (fU_order :: fU_ordered :: [fW_rules, fW_rule, fQ_sort, fQ_object, fQ_kind, fQ_adjectives, fQ_tests, fW_parents]) ++ [fX_alloc, fR_fault]
def apM9 : List Nat := (sxN ++ qL) ++ aqM ++ [fM_isDry, fM_fault]
theorem all_sub {L K M : List Nat} (h : K.all (fun F => !(L.contains F)) = true) (hM : M.all (fun F => K.contains F) = true) : M.all (fun F => !(L.contains F)) = true := List.all_eq_true.mpr (fun F hF => List.all_eq_true.mp h F (mem_all hM F hF))
theorem AP_f (A : AP σ τ) {L M : List Nat} (f1 : fr L σ σ') (hL : apC9.all (fun F => !(L.contains F)) = true) (f2 : fr M τ τ') (hM : apM9.all (fun F => !(M.contains F)) = true) : AP σ' τ' := by
  obtain ⟨⟨Q, al, dr, ft⟩, ⟨g, X⟩, O⟩ := A
  refine ⟨⟨AQ0_f Q f1 (all_sub hL (by decide +kernel)) f2 (all_sub hM (by decide +kernel)), ?_, ?_, ?_⟩, ⟨g, SX_f X f1 (all_sub hL (by decide +kernel)) f2 (all_sub hM (by decide +kernel))⟩, ORD_f O f1 (all_sub hL (by decide +kernel))⟩
  · rw [fr_no f1 hL (F := fX_alloc) (by decide +kernel)]; exact al
  · rw [fr_no f2 hM (F := fM_isDry) (by decide +kernel)]; exact dr
  · rw [fr_no f2 hM (F := fM_fault) (by decide +kernel), fr_no f1 hL (F := fR_fault) (by decide +kernel)]; exact ft
theorem dN_nilR (R : RD σ τ) (s : Int) : dN σ [] s = -1 := by
  have : fnd σ [] 0 = -1 := by
    refine Classical.byContradiction fun c => ?_
    have fr0 := (fnd_r (σ := σ) (nm := []) (Int.le_refl 0)).resolve_left c
    have lv : live σ (fnd σ [] 0) := ⟨fr0.1, fr0.2.1, fr0.2.2.1⟩
    have en : ent σ (fnd σ [] 0) = [] := fr0.2.2.2
    obtain ⟨k', _, _, W, hW, h1, _, _, _, h2, _⟩ := R.2.2.2.2.1 _ lv
    have ne : W ≠ [] := by
      intro z
      rw [z] at h1
      simp at h1
    have j := jn_ne W ne (fun w hw => (hW w hw).2.1)
    rcases h2 with h2 | h2
    · rw [en] at h2; exact j h2.2.symm
    · rw [en, jn_addS W ne] at h2
      have := h2.2.2
      simp at this
  unfold dN
  rw [if_pos (Or.inl this)]
theorem inTh_R (R : RD σ τ) (Wd : WKd σ) (k : Int → Int) (nm : Int → Int → List Int) (nk i j : Int) : inTh σ k nm nk i j = -1 ∨ thO σ (-1) nk (inTh σ k nm nk i j) := by
  unfold inTh
  by_cases c : i < j ∧ k (j - 1) = 62
  · rw [if_pos c]
    by_cases c2 : (j - i = 1 ∨ (j - i = 2 ∧ k i = 11)) ∧ nk ≠ -1
    · rw [if_pos c2]; exact Or.inr (Or.inr (Or.inl ⟨rfl, c2.2⟩))
    · rw [if_neg c2]; exact Or.inl rfl
  · rw [if_neg c]
    by_cases c2 : frK k (i + arK k i j) j = true
    · rw [if_pos c2]
      rcases dN_rg R Wd (nm (i + arK k i j) j) 2 with h | h
      · exact Or.inl h
      · exact Or.inr (Or.inr (Or.inr ⟨h.1, h.2.1⟩))
    · rw [if_neg c2]; exact Or.inl rfl
/-- spelling words of a bracket -/
theorem u_spell1 {B : Int → Int} (eB : σ fT_bytes 1 = B) (sz : σ fT_size 1 0 ≤ 5000) (bR : ∀ q, -128 ≤ B q ∧ B q < 128) {a c : Int} {M : Nat} (ha : 0 ≤ a) (hac : a ≤ c) (hc : c ≤ σ fT_size 1 0) (T : INT σ B c a M σ) (hM : (M : Int) ≤ 5000) {i j : Int} (h0 : 0 ≤ i) (hij : i ≤ j) (hj : j ≤ M) {d : Nat} (hd : 2 ≤ d) : ∃ σ', c_d_spellT d σ 1 i j = some (0, σ') ∧ fr spL σ σ' ∧ AT σ' (nx B c a i j) := by
  obtain ⟨σ', e1, e2, e3⟩ := s_d_spellT (σ := σ) (d := d) hd (v := 1) (a := i) (b := j) (by decide) sz (fun q => by rw [eB]; exact bR q) (fun k h1 h2 => by
    have t := T k.toNat (by omega)
    rw [show ((k.toNat : Nat) : Int) = k by omega] at t
    have r := sP_r (B := B) (x := true) (n := c) (a := a) ⟨ha, hac⟩ k.toNat
    unfold tIn
    rw [t.2.1, t.2.2]
    exact ⟨by omega, by omega, r.1, by omega, by omega⟩) hij
  have ew : wsT σ 1 i j = (rg i j).map (wx B c a) := by
    unfold wsT
    refine List.map_congr_left fun k hk => ?_
    have m := (rg_mem i).mp hk
    have t := T k.toNat (by omega)
    rw [show ((k.toNat : Nat) : Int) = k by omega] at t
    unfold wT wx
    rw [eB, t.2.1, t.2.2]
  rw [ew] at e3
  exact ⟨σ', e1, e2, e3⟩
theorem u_of (R : RD σ τ) (f : fr spL σ σ') {nm : List Int} (A : AT σ' nm) {d : Nat} (hd : 3 ≤ d) (s : Int) : c_d_of d σ' s = some (dN σ nm s, σ') := by
  have D := dic_c (fr_mem f (M := dicL) (by decide))
  rw [s_d_of hd (D.2.2.2 R.1) A.2.1 A.2.2, D.2.1, A.1, (dN_take R nm).1]
/-- the thing that is named in a bracket -/
theorem u_thingAt (R : RD σ τ) {B : Int → Int} (eB : σ fT_bytes 1 = B) (sz : σ fT_size 1 0 ≤ 5000) (bR : ∀ q, -128 ≤ B q ∧ B q < 128) {a c : Int} {M : Nat} (ha : 0 ≤ a) (hac : a ≤ c) (hc : c ≤ σ fT_size 1 0) (T : INT σ B c a M σ) (hM : (M : Int) ≤ 5000) {nk noun i : Int} (h0 : 0 ≤ i) (hi : i ≤ M) (hv : inTh σ (kx B c a) (nx B c a) nk i M ≠ -1) {d : Nat} (hd : 4 ≤ d) : ∃ σ', c_u_thingAt d σ i M noun = some (if inTh σ (kx B c a) (nx B c a) nk i M = -3 then noun else inTh σ (kx B c a) (nx B c a) nk i M, σ') ∧ fr spL σ σ' := by
  obtain ⟨d, rfl⟩ : ∃ e, d = e + 1 := ⟨d - 1, by omega⟩
  obtain ⟨k, ek⟩ : ∃ z, z = kx B c a := ⟨_, rfl⟩
  obtain ⟨nm, enm⟩ : ∃ z, z = nx B c a := ⟨_, rfl⟩
  have kk : ∀ q : Int, 0 ≤ q → q ≤ M → σ fT_kinds 1 q = k q := fun q x y => by rw [ek]; exact INT_k T x y
  have k0 : ∀ q, 0 ≤ k q := fun q => by rw [ek]; exact kx_0 _ _ _ _
  rw [← ek, ← enm] at hv ⊢
  have nn1 : ∀ {ρ : Type} (x : Option ρ), ga_nn 1 x = x := fun x => nn_ok _ (by decide)
  have lt : i < M := by
    refine Classical.byContradiction fun z => ?_
    have e : i = M := by omega
    have ar : arK k i M = 0 := by unfold arK; rw [if_neg (fun v => z v.1)]
    unfold inTh at hv
    rw [if_neg (fun v => z v.1), ar, Int.add_zero] at hv
    by_cases c2 : frK k i M = true
    · rw [if_pos c2] at hv
      have en : nm i M = [] := by
        rw [enm]
        unfold nx
        rw [rg_n (by omega)]
        rfl
      rw [en, dN_nilR R] at hv
      exact hv rfl
    · rw [if_neg c2] at hv; exact hv rfl
  rw [e_u_thingAt, show (0 + 1 : Int) = 1 from rfl, nn1, nn1, w32_ok (by omega), ck_ok _ (by omega), kk _ (by omega) (by omega)]
  by_cases c62 : k ((M : Int) - 1) = 62
  · have e3 : inTh σ k nm nk i M = -3 := by
      unfold inTh at hv ⊢
      rw [if_pos ⟨lt, c62⟩] at hv ⊢
      by_cases c2 : ((M : Int) - i = 1 ∨ ((M : Int) - i = 2 ∧ k i = 11)) ∧ nk ≠ -1
      · rw [if_pos c2]
      · rw [if_neg c2] at hv; exact absurd rfl hv
    rw [if_pos c62, e3, if_pos rfl]
    exact ⟨σ, rfl, fr_refl _ _⟩
  · have eI : inTh σ k nm nk i M = dN σ (nm (i + arK k i M) M) 2 ∧ dN σ (nm (i + arK k i M) M) 2 ≠ -1 := by
      unfold inTh at hv ⊢
      rw [if_neg (fun v => c62 v.2)] at hv ⊢
      by_cases c2 : frK k (i + arK k i M) M = true
      · rw [if_pos c2] at hv ⊢; exact ⟨rfl, hv⟩
      · rw [if_neg c2] at hv; exact absurd rfl hv
    have ar := arK_r k i M
    have arm := ar.2.2 hi
    obtain ⟨σ1, s1, s2, s3⟩ := u_spell1 eB sz bR ha hac hc T hM (i := i + arK k i M) (j := M) (by omega) (by omega) (Int.le_refl _) (d := d) (by omega)
    rw [← enm] at s3
    have o1 := u_of R s2 s3 (d := d) (by omega) 2
    have t40 : ∀ s0 : Int, s0 = arK k i M → u_thingAt_40 d σ M s0 i = some (inTh σ k nm nk i M, σ1) := by
      intro s0 e
      rw [e_u_thingAt_40, show (0 + 1 : Int) = 1 from rfl, w32_ok (by omega), e, s1, Option.bind_some]
      show ((c_d_of d σ1 2).bind fun q3 => some (q3.1, q3.2)) = _
      rw [o1, Option.bind_some, eI.1]
    have n3 : ¬ inTh σ k nm nk i M = -3 := by
      intro z
      rw [eI.1] at z
      have := fnd_r (σ := σ) (nm := nm (i + arK k i M) M) (Int.le_refl 0)
      unfold dN at z
      by_cases y : fnd σ (nm (i + arK k i M) M) 0 = -1 ∨ ¬ σ fD_sorts 0 (fnd σ (nm (i + arK k i M) M) 0) = 2
      · rw [if_pos y] at z; omega
      · rw [if_neg y] at z
        have y1 : fnd σ (nm (i + arK k i M) M) 0 ≠ -1 := fun u => y (Or.inl u)
        have f0 := this.resolve_left y1
        have w := R.2.2.2.2.2.2.2 _ ⟨f0.1, f0.2.1, f0.2.2.1⟩
        omega
    rw [if_neg c62, nn1, nn1, ck_ok _ (by omega), kk i h0 hi, nn_ok _ (k0 i), s_k_isArticle (by omega), Option.bind_some, if_neg n3]
    refine ⟨σ1, ?_, s2⟩
    by_cases z : 9 ≤ k i ∧ k i ≤ 12
    · rw [decide_eq_true z]
      refine (if_neg b2i_n).trans (t40 1 ?_)
      unfold arK; rw [if_pos ⟨lt, z⟩]
    · rw [decide_eq_false z]
      refine (if_pos b2i_f).trans (t40 0 ?_)
      unfold arK; rw [if_neg (fun v => z v.2)]
/-- a narrower kind has what a wider one has -/
theorem own_B {n : Int} (fo : FO (σ fW_parents 0) n) {k k' p : Int} (h0 : -1 ≤ k) (h1 : k < n) (hb : isB (σ fW_parents 0) k k' = true) (ho : own σ k' p = true) : own σ k p = true := by
  unfold own at ho ⊢
  obtain ⟨x, x1, x2⟩ := List.any_eq_true.mp ho
  exact List.any_eq_true.mpr ⟨x, CH_tr fo k h0 h1 k' (of_decide_eq_true hb) x x1, x2⟩
end

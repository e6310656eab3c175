/-! the act of a relation -/
section
variable {σ τ : ga_S} {f : Int} {N : Nat}
theorem m_kindOrPluralA {τ' : ga_S} (E : E0 σ τ f N) (T : tkT τ τ') (R : RD σ τ') {r a b : Int} (hr : RU σ τ f N r a b) {d : Nat} (hd : 5 ≤ d) : c_m_kindOrPlural d τ' r = some (kdN σ (nmT σ a b), τ') := by
  obtain ⟨d, rfl⟩ : ∃ e, d = e + 1 := ⟨d - 1, by omega⟩
  have M := mN_k E (nmT σ a b)
  have mm := fun ms => m_meansA ⟨E.1, E.2.1⟩ T R hr (d := d) (by omega) ms
  rw [e_m_kindOrPlural, mm, M.1]
  simp only [Option.bind_some]
  unfold kdN
  by_cases q : dN σ (nmT σ a b) 0 = -1
  · rw [if_pos q, if_pos q, mm, M.2.1]
    rfl
  · rw [if_neg q, if_neg q]
theorem kdN_r (E : E0 σ τ f N) (nm : List Int) : kdN σ nm = -1 ∨ (0 ≤ kdN σ nm ∧ kdN σ nm < σ fW_kinds 0 0) := by
  have a := e0_dN E nm 0
  have m0 : mxN σ 0 = σ fW_kinds 0 0 := rfl
  unfold kdN
  by_cases q : dN σ nm 0 = -1
  · rw [if_pos q]
    by_cases q2 : dN σ nm 11 < 100
    · rw [if_pos q2]
      unfold dN at q2 ⊢
      by_cases c : fnd σ nm 0 = -1 ∨ ¬ σ fD_sorts 0 (fnd σ nm 0) = 11
      · rw [if_pos c]; exact Or.inl rfl
      · rw [if_neg c] at q2 ⊢
        have c1 : fnd σ nm 0 ≠ -1 := fun z => c (Or.inl z)
        have c2 : σ fD_sorts 0 (fnd σ nm 0) = 11 := Classical.byContradiction (fun z => c (Or.inr z))
        have o := (fnd_r (σ := σ) (nm := nm) (Int.le_refl 0)).resolve_left c1
        have l : live σ (fnd σ nm 0) := ⟨o.1, o.2.1, o.2.2.1⟩
        have w := (E.2.2.2.2.2.2.2.2.2.2.2.2.1 _ l).2 c2
        have z := (E.2.2.1.2.2.2.2.2.2.2 _ l).2.2.2.1
        right
        omega
    · rw [if_neg q2]; exact Or.inl rfl
  · rw [if_neg q]; right; omega
theorem k_newRel49 {d : Nat} {r : Int} (hr : 0 ≤ r ∧ r < 6) : ∀ k, 0 ≤ k → ∀ ρ, ∃ ρ', w_newRelation_49 d ρ r k = some (r, ρ') ∧ fr [fW_related] ρ ρ' ∧ ∀ n i, ρ' fW_related n i = if n = r ∧ k ≤ i ∧ i < 576 then 0 else ρ fW_related n i := by
  refine rg_ind (n := 576) ?_ ?_
  · intro k h h0 ρ
    refine ⟨ρ, ?_, fr_refl _ _, fun n i => ?_⟩
    · rw [e_w_newRelation_49, if_neg (by omega)]
    · rw [if_neg (by omega)]
  · intro k h ih h0 ρ
    obtain ⟨ρ', a1, a2, a3⟩ := ih (by omega) (ga_up ρ fW_related r k 0)
    refine ⟨ρ', ?_, fr_trans (fr_u (by decide)) a2, fun n i => ?_⟩
    · rw [e_w_newRelation_49, if_pos h, ck_ok _ (by omega), nn_ok _ hr.1, ck_ok _ (by omega), w32_ok (x := k + 1) (by omega), a1]
    · rw [a3]
      by_cases c : n = r ∧ k + 1 ≤ i ∧ i < 576
      · rw [if_pos c, if_pos (by omega)]
      · rw [if_neg c]
        by_cases c2 : n = r ∧ i = k
        · rw [c2.1, c2.2, up_eq, if_pos (by omega)]
        · rw [if_neg (by omega)]
          by_cases c3 : n = r
          · rw [c3, up_i (fun z => c2 ⟨c3, z⟩)]
          · rw [up_nat, if_neg (fun z => c3 z.1)]
def rlW : List Nat := [fW_relations, fW_relationA, fW_relationB, fW_oneA, fW_oneB, fW_related]
theorem k_newRelation {r a b x y : Int} (hr : r = σ fW_relations 0 0) (h0 : 0 ≤ r ∧ r < 6) (hx : x = 0 ∨ x = 1) (hy : y = 0 ∨ y = 1) {d : Nat} (hd : 1 ≤ d) : ∃ σ', c_w_newRelation d σ a b x y = some (r, σ') ∧ fr rlW σ σ' ∧ σ' fW_relations 0 0 = r + 1 ∧ (∀ i, σ' fW_relationA 0 i = if i = r then a else σ fW_relationA 0 i) ∧ (∀ i, σ' fW_relationB 0 i = if i = r then b else σ fW_relationB 0 i) ∧ (∀ i, σ' fW_oneA 0 i = if i = r then x else σ fW_oneA 0 i) ∧ (∀ i, σ' fW_oneB 0 i = if i = r then y else σ fW_oneB 0 i) ∧ (∀ n i, σ' fW_related n i = if n = r ∧ 0 ≤ i ∧ i < 576 then 0 else σ fW_related n i) := by
  obtain ⟨d, rfl⟩ : ∃ e, d = e + 1 := ⟨d - 1, by omega⟩
  have run0 := e_w_newRelation d σ a b x y
  rw [← hr, ck_ok _ h0, ck_ok _ h0, ck_ok _ h0, z1_ok _ hx, ck_ok _ h0, z1_ok _ hy, w32_ok (x := r + 1) (by omega)] at run0
  obtain ⟨ρ, eρ⟩ : ∃ z, z = (ga_up (ga_up (ga_up (ga_up (ga_up σ fW_relations 0 0 (r + 1)) fW_relationA 0 r a) fW_relationB 0 r b) fW_oneA 0 r x) fW_oneB 0 r y) := ⟨_, rfl⟩
  rw [← eρ] at run0
  obtain ⟨ρ', a1, a2, a3⟩ := k_newRel49 (d := d) h0 0 (Int.le_refl _) ρ
  rw [a1] at run0
  have fρ : fr rlW σ ρ := by rw [eρ]; exact fr_trans (fr_u (by decide)) (fr_trans (fr_u (by decide)) (fr_trans (fr_u (by decide)) (fr_trans (fr_u (by decide)) (fr_u (by decide)))))
  refine ⟨ρ', run0, fr_trans fρ (fr_sub a2 (by decide)), ?_, fun i => ?_, fun i => ?_, fun i => ?_, fun i => ?_, fun n i => ?_⟩
  · rw [a2 _ (by decide), eρ, up_F (by decide), up_F (by decide), up_F (by decide), up_F (by decide), up_eq]
  · rw [a2 _ (by decide), eρ, up_F (by decide), up_F (by decide), up_F (by decide), up_at, up_F (by decide)]
  · rw [a2 _ (by decide), eρ, up_F (by decide), up_F (by decide), up_at, up_F (by decide), up_F (by decide)]
  · rw [a2 _ (by decide), eρ, up_F (by decide), up_at, up_F (by decide), up_F (by decide), up_F (by decide)]
  · rw [a2 _ (by decide), eρ, up_at, up_F (by decide), up_F (by decide), up_F (by decide), up_F (by decide)]
  · rw [a3, eρ, up_F (by decide), up_F (by decide), up_F (by decide), up_F (by decide), up_F (by decide)]
def a19C : List Nat := rlW ++ dicL ++ spL
def a19M : List Nat := [fM_relates, fM_relatesTo, fM_firstOne, fM_secondOne, fM_relations] ++ lexL
theorem act_19 (E : E0 σ τ f N) {g : Int} (D : DW σ τ g) (R5 : RW5 σ τ) (hs : σ fR_sort 0 0 = 19) (ht : τ fM_sort 0 0 = 19) (R0 : RU σ τ f N 0 (σ fR_nameFrom 0 0) (σ fR_nameTo 0 0)) (R1 : RU σ τ f N 1 (σ fR_runFrom 0 0) (σ fR_runTo 0 0)) (R2 : RU σ τ f N 2 (σ fR_runFrom 0 1) (σ fR_runTo 0 1)) (l0 : σ fR_nameFrom 0 0 < σ fR_nameTo 0 0) (hk : σ fR_kind0 0 0 = kdN σ (nR σ 0)) (hk1 : kdN σ (nR σ 0) ≠ -1) (ho : σ fR_object0 0 0 = kdN σ (nR σ 1)) (ho1 : kdN σ (nR σ 1) ≠ -1) (w0 : nB σ (wN σ 0) [] = true) (hA : σ fW_relations 0 0 < 6) (hx : τ fM_firstIsOne 0 0 = σ fR_firstOne 0 0 ∧ (σ fR_firstOne 0 0 = 0 ∨ σ fR_firstOne 0 0 = 1)) (hy : τ fM_secondIsOne 0 0 = σ fR_secondOne 0 0 ∧ (σ fR_secondOne 0 0 = 0 ∨ σ fR_secondOne 0 0 = 1)) {d : Nat} (hd : 5 ≤ d) (first : Int) : ∃ σ' τ', c_r_act (d + 1) σ = some (1, σ') ∧ c_m_does1 (d + 1) τ first = some (0, τ') ∧ fr a19C σ σ' ∧ fr a19M τ τ' ∧ WK σ' τ' ∧ RW5 σ' τ' ∧ DW σ' τ' g ∧ tkS σ σ' := by
  have E' := E
  obtain ⟨E1, E2, E3, E4⟩ := E
  have ET : ENV σ τ f N ∧ TOK σ τ f N := ⟨E1, E2⟩
  obtain ⟨Wk, Wo, Wa, Wt, Wv, Wp, Wr, Wb, Wc, Wd, Wl⟩ := E4
  obtain ⟨r, er⟩ : ∃ x, x = σ fW_relations 0 0 := ⟨_, rfl⟩
  obtain ⟨A, eA⟩ : ∃ x, x = kdN σ (nR σ 0) := ⟨_, rfl⟩
  obtain ⟨B, eB⟩ : ∃ x, x = kdN σ (nR σ 1) := ⟨_, rfl⟩
  have kA := kdN_r E' (nR σ 0)
  have kB := kdN_r E' (nR σ 1)
  rw [← eA] at kA hk hk1
  rw [← eB] at kB ho ho1
  have r0 := Wr.1
  have er' : τ fM_relations 0 0 = r := by rw [Wr.2.2.1, er]
  rw [← er] at r0 hA
  obtain ⟨σ1, b1, b2, b3, b4, b5, b6, b7, b8⟩ := k_newRelation (σ := σ) (a := A) (b := B) er ⟨r0, hA⟩ hx.2 hy.2 (d := d) (by omega)
  obtain ⟨τ1, e1⟩ : ∃ x, x = ga_up τ fM_relates 0 r A := ⟨_, rfl⟩
  have f1 : fr [fM_relates] τ τ1 := by rw [e1]; exact fr_u (by decide)
  obtain ⟨τ2, e2⟩ : ∃ x, x = ga_up (ga_up (ga_up τ1 fM_relatesTo 0 r B) fM_firstOne 0 r (σ fR_firstOne 0 0)) fM_secondOne 0 r (σ fR_secondOne 0 0) := ⟨_, rfl⟩
  have f2 : fr [fM_relatesTo, fM_firstOne, fM_secondOne] τ1 τ2 := by rw [e2]; exact fr_trans (fr_u (by decide)) (fr_trans (fr_u (by decide)) (fr_u (by decide)))
  have f12 : fr [fM_relates, fM_relatesTo, fM_firstOne, fM_secondOne] τ τ2 := fr_trans (fr_sub f1 (by decide)) (fr_sub f2 (by decide))
  have B1 : cB σ1 := by
    have Bc := D.2.2.2.2.1
    unfold cB at Bc ⊢
    rw [b2 fW_kinds (by decide), b2 fW_objects (by decide), b3, b2 fW_types (by decide), b2 fW_values (by decide), b2 fW_properties (by decide), b2 fW_adjectives (by decide), b2 fW_verbs (by decide), b2 fW_actions (by decide)]
    exact ⟨Bc.1, Bc.2.1, Bc.2.2.1, Bc.2.2.2.1, Bc.2.2.2.2.1, Bc.2.2.2.2.2.1, by omega, Bc.2.2.2.2.2.2.2⟩
  have D1 : DW σ1 τ2 g := DW_cm D (fr_mem b2 (by decide)) (fun F hF => by
      by_cases z : F = fW_relations
      · rw [z, b3, ← er]; omega
      · rw [b2 F (by revert z; revert F; decide)]; exact Int.le_refl _) (fr_mem f12 (by decide)) B1
  have S1 := tkS_g (tkS_r σ) b2 (by decide) (GC_g b2 (by decide) (cnt_1 b2 fW_relations (by decide) (by rw [b3, ← er]; omega)) (Or.inl (by decide)) (by decide) (Or.inl (by decide)) (Or.inl (by decide)) (Or.inl (by decide)) (Or.inl (by decide)))
  have T1 := tkT_f (tkT_r τ) f1 (by decide)
  have T2 := tkT_f (tkT_r τ) f12 (by decide)
  have dic1 := dic_c (fr_mem b2 (M := dicL) (by decide))
  have n0 := nB_1 w0
  have len0 : σ fR_nameTo 0 0 - σ fR_nameFrom 0 0 ≤ 3 := by have := wsT_len (σ := σ) R0.2.2.2.2.1; have := n0.1; unfold wN at this; omega
  have mx6 : mxN σ1 6 = r + 1 := b3
  obtain ⟨σ2, τ3, d1, d2, d3, d4, d5, d6, d7⟩ := tell_J ET S1 T2 D1 (s := 6) (n := r) R0 l0 len0 (by rw [dic1.1]; exact n0.2.1) (by omega) (by omega) (by omega) (by omega) (fun k l e => by
      have l' : live σ k := by unfold live at l ⊢; rw [b2 fD_count (by decide), b2 fD_sorts (by decide)] at l; exact l
      have x := (Wd k l').1
      rw [b2 fD_sorts (by decide)] at e
      rw [e] at x
      rw [b2 fD_numbers (by decide)]
      have x' : σ fD_numbers 0 k < σ fW_relations 0 0 := x
      omega) (d := d) (d' := d) (by omega) (by omega)
  obtain ⟨τ4, e4⟩ : ∃ x, x = ga_up τ3 fM_relations 0 0 (r + 1) := ⟨_, rfl⟩
  have f4 : fr [fM_relations] τ3 τ4 := by rw [e4]; exact fr_u (by decide)
  have D4 : DW σ2 τ4 g := DW_cm d5 (fun _ _ => rfl) (fun _ _ => Int.le_refl _) (fr_mem f4 (by decide)) d5.2.2.2.2.1
  have fC : fr a19C σ σ2 := fr_trans (fr_sub b2 (by decide)) (fr_sub d3.1 (by decide))
  have fM : fr a19M τ τ4 := fr_trans (fr_sub f12 (by decide)) (fr_trans (fr_sub d4.1 (by decide)) (fr_sub f4 (by decide)))
  have hC : c_r_act (d + 1) σ = some (1, σ2) := by
    rw [e_r_act, hs]
    iterate 19 rw [if_neg (by decide)]
    rw [if_pos rfl, hk, ho, b1]
    simp only [Option.bind_some]
    rw [d1]
    rfl
  have hM : c_m_does1 (d + 1) τ first = some (0, τ4) := by
    have k1 := m_kindOrPluralA E' (tkT_r τ) E3 R1 (d := d) (by omega)
    have k1' : c_m_kindOrPlural d τ 1 = some (A, τ) := by rw [k1, eA]; rfl
    have k2 := m_kindOrPluralA E' T1 (RD_m (fr_mem f1 (by decide)) E3) R2 (d := d) (by omega)
    have k2' : c_m_kindOrPlural d τ1 2 = some (B, τ1) := by rw [k2, eB]; rfl
    have d2' : c_m_tellRun d τ2 8 r 0 = some (0, τ3) := by
      have e5 : sM 6 r = 8 := rfl
      have e6 : iM 6 r = r := by unfold iM; rw [if_neg (by omega)]
      rw [e5, e6] at d2; exact d2
    rw [e_m_does1, ht]
    iterate 19 rw [if_neg (by decide)]
    rw [if_pos rfl, k1']
    simp only [Option.bind_some]
    rw [er', ck_ok _ ⟨r0, hA⟩, ← e1, k2']
    simp only [Option.bind_some]
    rw [f1 fM_relations (by decide), er', f1 fM_firstIsOne (by decide), f1 fM_secondIsOne (by decide), hx.1, hy.1, ck_ok _ ⟨r0, hA⟩, ck_ok _ ⟨r0, hA⟩, z1_ok _ hx.2, ck_ok _ ⟨r0, hA⟩, z1_ok _ hy.2, ← e2, d2']
    simp only [Option.bind_some]
    rw [d4.1 fM_relations (by decide), f12 fM_relations (by decide), er', w32_ok (x := r + 1) (by omega), ← e4]
  have yA : ∀ i, τ4 fM_relates 0 i = if i = r then A else τ fM_relates 0 i := by
    intro i; rw [f4 _ (by decide), d4.1 _ (by decide), f2 _ (by decide), e1, up_at]
  have yB : ∀ i, τ4 fM_relatesTo 0 i = if i = r then B else τ fM_relatesTo 0 i := by
    intro i; rw [f4 _ (by decide), d4.1 _ (by decide), e2, up_F (by decide), up_F (by decide), up_at, f1 _ (by decide)]
  have y1 : ∀ i, τ4 fM_firstOne 0 i = if i = r then σ fR_firstOne 0 0 else τ fM_firstOne 0 i := by
    intro i; rw [f4 _ (by decide), d4.1 _ (by decide), e2, up_F (by decide), up_at, up_F (by decide), f1 _ (by decide)]
  have y2 : ∀ i, τ4 fM_secondOne 0 i = if i = r then σ fR_secondOne 0 0 else τ fM_secondOne 0 i := by
    intro i; rw [f4 _ (by decide), d4.1 _ (by decide), e2, up_at, up_F (by decide), up_F (by decide), f1 _ (by decide)]
  have xA : ∀ i, σ2 fW_relationA 0 i = if i = r then A else σ fW_relationA 0 i := by
    intro i; rw [d3.1 _ (by decide)]; exact b4 i
  have xB : ∀ i, σ2 fW_relationB 0 i = if i = r then B else σ fW_relationB 0 i := by
    intro i; rw [d3.1 _ (by decide)]; exact b5 i
  have x1 : ∀ i, σ2 fW_oneA 0 i = if i = r then σ fR_firstOne 0 0 else σ fW_oneA 0 i := by
    intro i; rw [d3.1 _ (by decide)]; exact b6 i
  have x2 : ∀ i, σ2 fW_oneB 0 i = if i = r then σ fR_secondOne 0 0 else σ fW_oneB 0 i := by
    intro i; rw [d3.1 _ (by decide)]; exact b7 i
  have xr : ∀ n i, σ2 fW_related n i = if n = r ∧ 0 ≤ i ∧ i < 576 then 0 else σ fW_related n i := by
    intro n i; rw [d3.1 _ (by decide)]; exact b8 n i
  have xn : σ2 fW_relations 0 0 = r + 1 := by rw [d3.1 _ (by decide)]; exact b3
  have yn : τ4 fM_relations 0 0 = r + 1 := by rw [e4, up_eq]
  have Wr' : WKr σ2 τ4 := by
    refine ⟨by omega, by omega, by omega, fun i z0 z1 => ?_⟩
    rw [fC fW_kinds (by decide), xA, xB, yA, yB]
    by_cases q : i = r
    · rw [if_pos q, if_pos q, if_pos q, if_pos q]
      exact ⟨⟨by omega, by omega, rfl⟩, by omega, by omega, rfl⟩
    · rw [if_neg q, if_neg q, if_neg q, if_neg q]
      exact Wr.2.2.2 i z0 (by omega)
  have Wb' : WKb σ2 τ4 := by
    refine ⟨by rw [fC _ (by decide)]; exact Wb.1, by rw [fC _ (by decide)]; exact Wb.2.1, by rw [fC _ (by decide), fM _ (by decide)]; exact Wb.2.2.1, fun v v0 v1 => ?_⟩
    rw [fC _ (by decide)] at v1
    have o := Wb.2.2.2 v v0 v1
    rw [fC fW_verbRelations (by decide), fM fM_verbRelation (by decide), xn]
    exact ⟨o.1, by omega, o.2.2⟩
  refine ⟨σ2, τ4, hC, hM, fC, fM, ⟨WKk_f Wk (fr_mem fC (by decide)) (fr_mem fM (by decide)), WKo_f Wo (fr_mem fC (by decide)) (fr_mem fM (by decide)), WKa_f Wa (fr_mem fC (by decide)) (fr_mem fM (by decide)), WKt_f Wt (fr_mem fC (by decide)) (fr_mem fM (by decide)), WKv_f Wv (fr_mem fC (by decide)) (fr_mem fM (by decide)), WKp_f Wp (fr_mem fC (by decide)) (fr_mem fM (by decide)), Wr', Wb', WKc_f Wc (fr_mem fC (by decide)) (fr_mem fM (by decide)), D4.2.1, D4.2.2.1⟩, ⟨RWt_f R5.1 (fr_mem fC (by decide)) (fr_mem fM (by decide)), RWh_f R5.2.1 (fr_mem fC (by decide)) (by rw [fC fT_size (by decide), fC fT_bytes (by decide)]; exact ⟨rfl, rfl⟩) (fr_mem fM (by decide)), RWp_f R5.2.2.1 (fr_mem fC (by decide)) (fr_mem fM (by decide)), RWy_f R5.2.2.2.1 (fr_mem fC (by decide)) (fr_mem fM (by decide)), ?_⟩, D4, d6⟩
  obtain ⟨t1, t2⟩ := R5.2.2.2.2
  refine ⟨fun i z0 z1 => ?_, fun i z0 z1 => ?_⟩
  · rw [x1, x2, y1, y2]
    by_cases q : i = r
    · rw [if_pos q, if_pos q, if_pos q, if_pos q]
      refine ⟨hx.2, hy.2, rfl, rfl, fun j j0 j1 => ?_⟩
      rw [xr, if_pos ⟨q, j0, j1⟩, fM fM_related (by decide), q]
      exact ⟨Or.inl rfl, t2 _ (by rw [← er]; omega) (by omega)⟩
    · have o := t1 i z0 (by omega)
      rw [if_neg q, if_neg q, if_neg q, if_neg q]
      refine ⟨o.1, o.2.1, o.2.2.1, o.2.2.2.1, fun j j0 j1 => ?_⟩
      rw [xr, if_neg (fun z => q z.1), fM fM_related (by decide)]
      exact o.2.2.2.2 j j0 j1
  · rw [fM fM_related (by decide)]
    exact t2 i (by rw [xn] at z0; rw [← er]; omega) z1
end

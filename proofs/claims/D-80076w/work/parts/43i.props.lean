/-! names on both sides; a property written out; the name of something -/
def iS (m : Int) : Int := if m = 0 then 0 else if m = 2 then 1 else if m = 4 then 2 else if m = 5 then 3 else if m = 6 then 4 else if m = 7 then 5 else if m = 8 then 6 else if m = 9 then 7 else if m = 11 then 8 else if m = 12 then 9 else if m = 10 then 12 else 11
theorem iS_sM {s n : Int} (hs : 0 ≤ s ∧ s ≤ 12 ∧ s ≠ 10) : iS (sM s n) = s ∧ (if sM s n = 3 then iM s n + 100 else iM s n) = n := by
  have e : s = 0 ∨ s = 1 ∨ s = 2 ∨ s = 3 ∨ s = 4 ∨ s = 5 ∨ s = 6 ∨ s = 7 ∨ s = 8 ∨ s = 9 ∨ s = 12 ∨ s = 11 := by omega
  rcases e with e | e | e | e | e | e | e | e | e | e | e | e <;> subst e
  iterate 11 exact ⟨rfl, rfl⟩
  by_cases c : n < 100
  · have e1 : sM 11 n = 1 := if_pos c
    have e2 : iM 11 n = n := if_neg (by omega)
    rw [e1, e2]; exact ⟨rfl, rfl⟩
  · have e1 : sM 11 n = 3 := if_neg c
    have e2 : iM 11 n = n - 100 := if_pos (by omega)
    rw [e1, e2, if_pos rfl]; exact ⟨rfl, by omega⟩
theorem sM_in {s n s' n' : Int} (hs : 0 ≤ s ∧ s ≤ 12 ∧ s ≠ 10) (hs' : 0 ≤ s' ∧ s' ≤ 12 ∧ s' ≠ 10) (h1 : sM s' n' = sM s n) (h2 : iM s' n' = iM s n) : s' = s ∧ n' = n := by
  have a := iS_sM (n := n) hs
  have b := iS_sM (n := n') hs'
  rw [h1, h2] at b
  exact ⟨b.1.symm.trans a.1, b.2.symm.trans a.2⟩
theorem firstV_r {σ : ga_S} {t : Int} : firstV σ t 0 = -1 ∨ (0 ≤ firstV σ t 0 ∧ firstV σ t 0 < σ fW_values 0 0) := by
  unfold firstV
  cases h : (rg 0 (σ fW_values 0 0)).find? (fun v => decide (σ fW_valueTypes 0 v = t)) with
  | none => left; rfl
  | some v => right; exact (rg_mem 0).mp (List.mem_of_find?_eq_some h)
section
variable {σ τ : ga_S} {g : Int}
/-- entry and lex of the same -/
theorem en_J (X : SX σ τ g) {s n ms : Int} (hs : 0 ≤ s ∧ s ≤ 12 ∧ s ≠ 10) (h1 : ms = sM s n) (h2 : iM s n = n) {d d' : Nat} (hd : 1 ≤ d) (hd' : 1 ≤ d') : (c_d_entry d σ s n = some (-1, σ) ∧ c_m_lexOf d' τ ms n = some (-1, τ) ∧ ¬ tld σ s n) ∨ ∃ k k', c_d_entry d σ s n = some (k, σ) ∧ c_m_lexOf d' τ ms n = some (k', τ) ∧ live σ k ∧ σ fD_sorts 0 k = s ∧ (0 ≤ k' ∧ k' < 300) ∧ eM σ τ k k' := by
  have D := X.2.2.1
  have R := D.1
  have c640 : σ fD_count 0 0 ≤ 640 := R.1.2.1
  have ke := s_d_entry (σ := σ) hd c640 s n
  obtain ⟨l, l1, l2⟩ := m_lexOf (τ := τ) R.2.2.1 ms n (d := d') hd'
  rcases enI_r (σ := σ) (s := s) (n := n) with z | z
  · left
    have no := enI_n z
    rw [z] at ke
    refine ⟨ke, ?_, fun ⟨k, k1, k2, k3, _⟩ => no k k1.1 k1.2.1 ⟨k2, k3⟩⟩
    rcases l2 with l2 | l2
    · rw [l1, l2.1]
    · exfalso
      obtain ⟨k, k1, k2⟩ := R.2.2.2.1 l l2.1 l2.2.1
      obtain ⟨_, _, _, _, _, _, _, e1, e2⟩ := k2
      have w := R.2.2.2.2.2.2.2 k k1
      have q := sM_in hs ⟨w.1, w.2.1, w.2.2.1⟩ (by rw [← e1, l2.2.2.1, h1]) (by rw [← e2, l2.2.2.2, h2])
      exact no k k1.1 k1.2.1 q
  · right
    have lv : live σ (enI σ s n 0) := ⟨z.1, z.2.1, by rw [z.2.2.1]; omega⟩
    obtain ⟨k', k1, k2, k3⟩ := R.2.2.2.2.1 _ lv
    obtain ⟨_, _, _, _, _, _, _, e1, e2⟩ := id k3
    rw [z.2.2.1, z.2.2.2] at e1 e2
    have el : l = k' := by
      rcases l2 with l2 | l2
      · exact absurd ⟨by rw [e1, h1], by rw [e2, h2]⟩ (l2.2 k' k1 k2)
      · exact D.2.2.2.1.2.2.1 l k' l2.1 l2.2.1 k1 k2 (by rw [l2.2.2.1, e1, h1]) (by rw [l2.2.2.2, e2, h2])
    exact ⟨_, k', ke, by rw [l1, el], lv, z.2.2.1, ⟨k1, by have := R.2.2.1; omega⟩, k3⟩
/-- an entry written out -/
theorem we_J (X : SX σ τ g) {k k' : Int} (lv : live σ k) (hs : σ fD_sorts 0 k ≠ 12) (hk' : 0 ≤ k' ∧ k' < 300) (h : eM σ τ k k') (J : OJ σ τ) {d : Nat} (hd : 3 ≤ d) : ∃ σ' τ', c_u_writeWords d σ k = some (0, σ') ∧ c_m_putLex d τ k' = some (0, τ') ∧ fr ouC σ σ' ∧ fr ouM τ τ' ∧ OJ σ' τ' := by
  have R := X.2.2.1.1.1
  have w := R.2.2.2.2 k lv.1 lv.2.1
  have l1 := lv.2.1
  have r1 := R.2.1
  have r2 := R.2.2.2.1
  exact ww_J hk' ⟨lv.1, by omega⟩ w.2.1 w.1 (by omega) h (Or.inr hs) J hd
/-- a property written out -/
theorem wp_J (A : AP σ τ) {o p : Int} (ho : 0 ≤ o ∧ o < σ fW_objects 0 0) (hp : 0 ≤ p ∧ p < σ fW_properties 0 0) {d : Nat} (hd : 6 ≤ d) : ∃ σ' τ', c_u_writeProperty d σ o p = some (0, σ') ∧ c_m_putProperty d τ o p = some (0, τ') ∧ fr ouC σ σ' ∧ fr (fM_numberLong :: ouM) τ τ' ∧ AP σ' τ' := by
  obtain ⟨d, rfl⟩ : ∃ e, d = e + 2 := ⟨d - 2, by omega⟩
  have AA := A
  obtain ⟨⟨Q, _⟩, ⟨g, X⟩, _⟩ := A
  obtain ⟨_, ⟨b1, b2, b3, b4, b5, b6⟩, _⟩ := Q
  have W := X.1
  have Wo := W.2.1
  have o24 := Wo.2.1
  have Wp := W.2.2.2.2.2.1
  have Wv := W.2.2.2.2.1
  have p12 := Wp.2.1
  have wo := Wo.2.2.2 o ho.1 ho.2
  obtain ⟨v, l, n1, n2, n3, n4⟩ := nm_J X ho hp (d := d + 1) (by omega)
  obtain ⟨υ, eu⟩ : ∃ x, x = ga_up τ fM_numberLong 0 0 l := ⟨_, rfl⟩
  have f1 : fr [fM_numberLong] τ υ := by rw [eu]; exact fr_u (by decide)
  have ul : υ fM_numberLong 0 0 = l := by rw [eu, up_eq]
  rw [← eu] at n1
  have pt0 := Wp.2.2.2.1 p hp.1 hp.2
  have pt : υ fM_propertyType 0 p = σ fW_propertyTypes 0 p := by rw [f1 _ (by decide)]; exact pt0.2.2
  have AU := AP_nl AA f1
  have JU := OJ_AP AU
  have XU : SX σ υ g := SX_f X (fr_refl [] σ) (by decide) f1 (by decide)
  have kh := s_w_hasAt (σ := σ) W.1.1 (d := d + 1) (by omega) (o := o) (p := p) (by omega) (by omega) (by omega) wo.2.1
  have kn := s_w_number (σ := σ) W.1.1 (d := d + 1) (by omega) (o := o) (p := p) (by omega) (by omega) Wv.2.1 (by omega) wo.2.1
  have rr := hasRow_r (σ := σ) W.1.1 (o := o) (p := p) (by omega) (by omega) wo.2.1
  -- how both end
  have fin : ∀ σ' τ', c_u_writeProperty (d + 2) σ o p = some (0, σ') → c_m_putProperty (d + 2) τ o p = some (0, τ') → fr ouC σ σ' → fr ouM υ τ' → OJ σ' τ' → ∃ σ' τ', c_u_writeProperty (d + 2) σ o p = some (0, σ') ∧ c_m_putProperty (d + 2) τ o p = some (0, τ') ∧ fr ouC σ σ' ∧ fr (fM_numberLong :: ouM) τ τ' ∧ AP σ' τ' := fun σ' τ' c1 c2 c3 c4 c5 => ⟨σ', τ', c1, c2, c3, fr_trans (fr_sub f1 (by decide)) (fr_sub c4 (by decide)), AP_out AU c3 c4 c5⟩
  by_cases ty : σ fW_propertyTypes 0 p = 1
  · obtain ⟨m1, m2, m3⟩ := n3 ty
    have rM : c_m_putProperty (d + 2) τ o p = m_putProperty_43 (d + 1) υ v l 0 := by
      rw [e_m_putProperty, n1, Option.bind_some, ck_ok _ (by omega)]
      show (if υ fM_propertyType 0 p = 0 then _ else ga_ck p 12 (if υ fM_propertyType 0 p = 1 then m_putProperty_43 (d + 1) υ v (υ fM_numberLong 0 0) 0 else _)) = _
      rw [pt, if_neg (by omega), ck_ok _ (by omega), if_pos ty, ul]
    by_cases z : hasRow σ o p = -1
    · obtain ⟨l0, v0⟩ := m2 z
      refine fin σ υ ?_ ?_ (fr_refl _ _) (fr_refl _ _) JU
      · rw [e_u_writeProperty, kh, Option.bind_some, ck_ok _ (by omega)]
        exact (if_pos ty).trans (if_pos z)
      · rw [rM, e_m_putProperty_43, l0, if_neg (by decide)]
    · obtain ⟨v1, v2⟩ := m3 z
      have vl := v1.2.1 ty
      have le : σ fW_lengths (hasRow σ o p) p = l := by rw [m1]; unfold lenV; rw [if_neg z]
      have v20 := v2.1
      have v21 := v2.2.1
      have vl0 := vl.1
      have vl1 := vl.2.1
      have vl2 := vl.2.2.1
      obtain ⟨σ', τ', c1, c2, c3, c4, c5⟩ := wt_2 (a := σ fW_numbers (hasRow σ o p) p) (b := v) (n := l) (by omega) (by omega) (d := d) (by omega) l.toNat 0 σ υ (by omega) (by omega) (fun q q0 q1 => by rw [f1 _ (by decide), b1, b2]; exact v2.2.2 q q0 q1) JU
      refine fin σ' τ' ?_ (rM.trans (go_mono c2 (by omega))) c3 c4 c5
      rw [e_u_writeProperty, kh, Option.bind_some, ck_ok _ (by omega)]
      refine (if_pos ty).trans ((if_neg z).trans ?_)
      show ga_ck (hasRow σ o p) 40 (ga_nn (hasRow σ o p) (ga_ck p 12 (ga_ck (hasRow σ o p) 40 (ga_nn (hasRow σ o p) (ga_ck p 12 ((c_u_writeText (d + 1) σ (σ fW_numbers (hasRow σ o p) p) (σ fW_lengths (hasRow σ o p) p)).bind fun q8 => some (0, q8.2))))))) = _
      rw [ck_ok _ (by omega), nn_ok _ (by omega), ck_ok _ (by omega), ck_ok _ (by omega), nn_ok _ (by omega), ck_ok _ (by omega), le, e_u_writeText, c1]
      rfl
  · have ev := n2 ty
    by_cases t0 : σ fW_propertyTypes 0 p = 0
    · have bd : -999999 ≤ numV σ o p ∧ numV σ o p ≤ 999999 := by
        unfold numV
        by_cases z : hasRow σ o p = -1
        · rw [if_pos z, if_pos t0]; omega
        · rw [if_neg z]
          have := (row_of X (r := hasRow σ o p) (p := p) (by omega) (by omega) (rr.2.2 z)).2.2.2.1 t0
          omega
      obtain ⟨σ', τ', c1, c2, c3, c4, c5⟩ := wn_J JU bd (d := d + 1) (by omega)
      refine fin σ' τ' ?_ ?_ c3 c4 c5
      · rw [e_u_writeProperty, kh, Option.bind_some, ck_ok _ (by omega)]
        refine (if_neg ty).trans ?_
        show ga_ck p 12 (if σ fW_propertyTypes 0 p = 0 then (c_w_number (d + 1) σ o p).bind fun q6 => (c_u_writeNumber (d + 1) q6.2 q6.1).bind fun q7 => some ((0 : Int), q7.2) else _) = _
        rw [ck_ok _ (by omega), if_pos t0, kn, Option.bind_some, c1, Option.bind_some]
      · rw [e_m_putProperty, n1, Option.bind_some, ck_ok _ (by omega)]
        show (if υ fM_propertyType 0 p = 0 then (c_m_putNumber (d + 1) υ v).bind fun q4 => some ((0 : Int), q4.2) else _) = _
        rw [pt, if_pos t0, ev, c2, Option.bind_some]
    · have rC : c_u_writeProperty (d + 2) σ o p = if numV σ o p = -1 then some (0, σ) else (c_d_entry (d + 1) σ 4 (numV σ o p)).bind fun q4 => (c_u_writeWords (d + 1) q4.2 q4.1).bind fun q5 => some (0, q5.2) := by
        rw [e_u_writeProperty, kh, Option.bind_some, ck_ok _ (by omega)]
        refine (if_neg ty).trans ?_
        show ga_ck p 12 (if σ fW_propertyTypes 0 p = 0 then _ else (c_w_number (d + 1) σ o p).bind fun q2 => if q2.1 = -1 then some ((0 : Int), q2.2) else (c_w_number (d + 1) q2.2 o p).bind fun q3 => (c_d_entry (d + 1) q3.2 4 q3.1).bind fun q4 => (c_u_writeWords (d + 1) q4.2 q4.1).bind fun q5 => some (0, q5.2)) = _
        rw [ck_ok _ (by omega), if_neg t0, kn, Option.bind_some]
        show (if numV σ o p = -1 then some ((0 : Int), σ) else (c_w_number (d + 1) σ o p).bind fun q3 => (c_d_entry (d + 1) q3.2 4 q3.1).bind fun q4 => (c_u_writeWords (d + 1) q4.2 q4.1).bind fun q5 => some (0, q5.2)) = _
        rw [kn, Option.bind_some]
      have rM : c_m_putProperty (d + 2) τ o p = if numV σ o p = -1 then some (0, υ) else (c_m_lexOf (d + 1) υ 6 (numV σ o p)).bind fun q2 => (c_m_putLex (d + 1) q2.2 q2.1).bind fun q3 => some (0, q3.2) := by
        rw [e_m_putProperty, n1, Option.bind_some, ck_ok _ (by omega)]
        show (if υ fM_propertyType 0 p = 0 then _ else ga_ck p 12 (if υ fM_propertyType 0 p = 1 then _ else if v = -1 then some ((0 : Int), υ) else (c_m_lexOf (d + 1) υ 6 v).bind fun q2 => (c_m_putLex (d + 1) q2.2 q2.1).bind fun q3 => some (0, q3.2))) = _
        rw [pt, if_neg t0, ck_ok _ (by omega), if_neg ty, ev]
      by_cases nv : numV σ o p = -1
      · rw [if_pos nv] at rC rM
        exact fin σ υ rC rM (fr_refl _ _) (fr_refl _ _) JU
      · rw [if_neg nv] at rC rM
        have tp := pt0.1
        have vr : 0 ≤ numV σ o p ∧ numV σ o p < σ fW_values 0 0 := by
          by_cases z : hasRow σ o p = -1
          · unfold numV at nv ⊢
            rw [if_pos z, if_neg t0] at nv ⊢
            have := firstV_r (σ := σ) (t := σ fW_propertyTypes 0 p)
            omega
          · unfold numV
            rw [if_neg z]
            have := (row_of X (r := hasRow σ o p) (p := p) (by omega) (by omega) (rr.2.2 z)).2.2.2.2.2 (by omega)
            exact ⟨this.1, this.2.1⟩
        have tl := X.2.2.2.2.2.2.2.2.2.1.2 (numV σ o p) vr.1 vr.2
        rcases en_J XU (s := 4) (n := numV σ o p) (ms := 6) (by decide) rfl (by unfold iM; rw [if_neg (by omega)]) (d := d + 1) (d' := d + 1) (by omega) (by omega) with ⟨_, _, z⟩ | ⟨k, k', e1, e2, lv, es, hk', em⟩
        · exact absurd tl z
        · obtain ⟨σ', τ', c1, c2, c3, c4, c5⟩ := we_J XU lv (by rw [es]; decide) hk' em JU (d := d + 1) (by omega)
          refine fin σ' τ' ?_ ?_ c3 c4 c5
          · rw [rC, e1, Option.bind_some]
            show ((c_u_writeWords (d + 1) σ k).bind fun q5 => some ((0 : Int), q5.2)) = _
            rw [c1, Option.bind_some]
          · rw [rM, e2, Option.bind_some]
            show ((c_m_putLex (d + 1) υ k').bind fun q3 => some ((0 : Int), q3.2)) = _
            rw [c2, Option.bind_some]
theorem mny_r (X : SX σ τ g) {w : Int} (h0 : 0 ≤ w) (h8 : w ≤ 8) : 0 ≤ mny σ w ∧ mny σ w ≤ 64 := by
  obtain ⟨Wk, Wo, Wa, Wt, Wv, Wp, Wr, Wb, Wc, _⟩ := X.1
  have a1 := Wk.1.1
  have a2 := Wk.2.1
  have b1 := Wo.1
  have b2 := Wo.2.1
  have c1 := Wa.1
  have c2 := Wa.2.1
  have d1 := Wt.1
  have d2 := Wt.2.1
  have e1 := Wv.1
  have e2 := Wv.2.1
  have f1 := Wp.1
  have f2 := Wp.2.1
  have g1 := Wr.1
  have g2 := Wr.2.1
  have h1 := Wb.1
  have h2 := Wb.2.1
  have i1 := Wc.1
  have i2 := Wc.2.1
  have e : w = 0 ∨ w = 1 ∨ w = 2 ∨ w = 3 ∨ w = 4 ∨ w = 5 ∨ w = 6 ∨ w = 7 ∨ w = 8 := by omega
  rcases e with e | e | e | e | e | e | e | e | e <;> subst e
  · show 0 ≤ σ fW_kinds 0 0 ∧ σ fW_kinds 0 0 ≤ 64; omega
  · show 0 ≤ σ fW_types 0 0 ∧ σ fW_types 0 0 ≤ 64; omega
  · show 0 ≤ σ fW_objects 0 0 ∧ σ fW_objects 0 0 ≤ 64; omega
  · show 0 ≤ σ fW_adjectives 0 0 ∧ σ fW_adjectives 0 0 ≤ 64; omega
  · show 0 ≤ σ fW_values 0 0 ∧ σ fW_values 0 0 ≤ 64; omega
  · show 0 ≤ σ fW_properties 0 0 ∧ σ fW_properties 0 0 ≤ 64; omega
  · show 0 ≤ σ fW_relations 0 0 ∧ σ fW_relations 0 0 ≤ 64; omega
  · show 0 ≤ σ fW_verbs 0 0 ∧ σ fW_verbs 0 0 ≤ 64; omega
  · show 0 ≤ σ fW_actions 0 0 ∧ σ fW_actions 0 0 ≤ 64; omega
/-- letter k of the name of something -/
theorem q_name (A : AP σ τ) (w i k : Int) (hk : k < 2147483648) {d : Nat} (hd : 4 ≤ d) : ∃ v, c_x_name d σ w i k = some (v, σ) ∧ c_m_name3 d τ w i k = some (v, τ) := by
  obtain ⟨d, rfl⟩ : ∃ e, d = e + 1 := ⟨d - 1, by omega⟩
  obtain ⟨_, ⟨g, X⟩, _⟩ := A
  have R := X.2.2.1.1.1
  have nam : ∀ s ms, (0 ≤ s ∧ s ≤ 12 ∧ s ≠ 10) → s ≠ 12 → ms = sM s i → iM s i = i → 0 ≤ k → ∃ v, x_name_70 d σ i k s = some (v, σ) ∧ m_name3_147 d τ i k ms = some (v, τ) := by
    intro s ms hs h12 h1 h2 k0
    rcases en_J X (s := s) (n := i) (ms := ms) hs h1 h2 (d := d) (d' := d) (by omega) (by omega) with ⟨e1, e2, _⟩ | ⟨q, q', e1, e2, lv, es, hk', em⟩
    · refine ⟨-1, ?_, ?_⟩
      · rw [e_x_name_70, e1, Option.bind_some]
        exact (if_pos rfl).trans (e_x_name_103 d σ)
      · rw [e_m_name3_147, e2, Option.bind_some]
        exact if_pos rfl
    · have w := R.2.2.2.2 q lv.1 lv.2.1
      have l1 := lv.2.1
      have r1 := R.2.1
      have r2 := R.2.2.2.1
      have lq := lv.1
      refine ⟨bt (ent σ q) k, ?_, ?_⟩
      · rw [e_x_name_70, e1, Option.bind_some, ent_bt w.2.1 k0]
        refine (if_neg (show ¬ q = -1 by omega)).trans ((if_neg (show ¬ k < 0 by omega)).trans ?_)
        show ga_ck q 640 (if k < σ fD_sizes 0 q then ga_ck q 640 (ga_ck (w32 (σ fD_froms 0 q + k)) 24000 (some (σ fD_letters 0 (w32 (σ fD_froms 0 q + k)), σ))) else x_name_103 d σ) = _
        rw [ck_ok _ (by omega)]
        by_cases c : k < σ fD_sizes 0 q
        · rw [if_pos c, if_pos c, ck_ok _ (by omega), w32_ok (by omega), ck_ok _ (by omega)]
        · rw [if_neg c, if_neg c, e_x_name_103]
      · rw [e_m_name3_147, e2, Option.bind_some]
        refine (if_neg (show ¬ q' = -1 by omega)).trans ?_
        show ((c_m_byteOf d τ q' k).bind fun q5 => some (q5.1, q5.2)) = _
        rw [m_byteOf em (Or.inr (by rw [es]; exact h12)) hk' (by omega) ⟨k0, hk⟩, Option.bind_some]
  -- how many there are
  have body : ∀ (p v : Int) (s ms : Int), (0 ≤ v ∧ v ≤ 8) → (0 ≤ s ∧ s ≤ 12 ∧ s ≠ 10) → s ≠ 12 → ms = sM s i → (0 ≤ i → i < mny σ v → iM s i = i) → (∀ (υ : ga_S), (if p = 0 then x_name_70 d υ i k w else x_name_70 d υ i k 11) = x_name_70 d υ i k s) → (∀ (υ : ga_S), (if w = 0 then m_name3_147 d υ i k 0 else if w = 1 then m_name3_147 d υ i k 2 else if w = 2 then m_name3_147 d υ i k 4 else if w = 3 then m_name3_147 d υ i k 5 else if w = 4 then m_name3_147 d υ i k 6 else if w = 5 then m_name3_147 d υ i k 7 else if w = 6 then m_name3_147 d υ i k 8 else if w = 7 then m_name3_147 d υ i k 9 else if w = 8 then m_name3_147 d υ i k 11 else m_name3_147 d υ i k 1) = m_name3_147 d υ i k ms) → ∃ x, (if i < 0 then some (-1, σ) else x_name_44 d σ w i k p v i) = some (x, σ) ∧ m_name3_41 d τ w i k v 0 i = some (x, τ) := by
    intro p v s ms hv hs h12 h1 h2 hC hM
    have mr := mny_r X hv.1 hv.2
    have m41 : m_name3_41 d τ w i k v 0 i = (if b2i (decide (0 ≤ i ∧ i ≤ mny σ v - 1)) = 0 then some (-1, τ) else if k < 0 then some (-1, τ) else m_name3_147 d τ i k ms) := by
      rw [e_m_name3_41, m_told X v (by omega), Option.bind_some]
      show ((c_m_in d τ i 0 (w32 (mny σ v - 1))).bind _) = _
      rw [w32_ok (by omega), s_m_in (by omega), Option.bind_some]
      show (if b2i (decide (0 ≤ i ∧ i ≤ mny σ v - 1)) = 0 then some ((-1 : Int), τ) else if k < 0 then some (-1, τ) else _) = _
      rw [hM]
    rw [m41]
    by_cases c : 0 ≤ i ∧ i ≤ mny σ v - 1
    · rw [decide_eq_true c, if_neg b2i_n, if_neg (by omega), e_x_name_44, k_many v (by omega), Option.bind_some]
      have x70 : (if i < mny σ v then if p = 0 then x_name_70 d σ i k w else x_name_70 d σ i k 11 else some (-1, σ)) = x_name_70 d σ i k s := by
        rw [if_pos (by omega), hC]
      show ∃ x, (if i < mny σ v then if p = 0 then x_name_70 d σ i k w else x_name_70 d σ i k 11 else some (-1, σ)) = some (x, σ) ∧ _
      rw [x70]
      by_cases k0 : k < 0
      · rw [if_pos k0]
        refine ⟨-1, ?_, rfl⟩
        rw [e_x_name_70, s_d_entry (by omega) R.2.1, Option.bind_some]
        show (if enI σ s i 0 = -1 then x_name_103 d σ else if k < 0 then x_name_103 d σ else _) = _
        rw [if_pos k0, e_x_name_103]
        split <;> rfl
      · rw [if_neg k0]
        exact nam s ms hs h12 h1 (h2 c.1 (by omega)) (by omega)
    · rw [decide_eq_false c, if_pos b2i_f]
      refine ⟨-1, ?_, rfl⟩
      by_cases i0 : i < 0
      · rw [if_pos i0]
      · rw [if_neg i0, e_x_name_44, k_many v (by omega), Option.bind_some]
        exact if_neg (by omega)
  by_cases c11 : w = 11
  · subst c11
    have xC : c_x_name (d + 1) σ 11 i k = (if i < 0 then some (-1, σ) else x_name_44 d σ 11 i k 1 0 i) := by
      rw [e_x_name, if_pos rfl, e_x_name_11, if_neg (by decide), if_pos (by decide), if_neg (by decide), e_x_name_28]
      by_cases i0 : i < 0
      · rw [if_pos i0, if_pos i0]
      · rw [if_neg i0, if_neg i0, if_neg (by decide)]
    have xM : c_m_name3 (d + 1) τ 11 i k = m_name3_41 d τ 11 i k 0 0 i := by
      rw [e_m_name3, if_pos rfl, e_m_name3_11, if_neg (by decide), e_m_name3_28, if_neg (by decide)]
    rw [xC, xM]
    have k16 := X.1.1.1.1
    by_cases i100 : i < 100
    · exact body 1 0 11 1 (by decide) (by decide) (by decide) (by unfold sM; rw [if_neg (by decide), if_neg (by decide), if_neg (by decide), if_neg (by decide), if_neg (by decide), if_neg (by decide), if_neg (by decide), if_neg (by decide), if_neg (by decide), if_neg (by decide), if_pos rfl, if_pos i100]) (fun _ _ => by unfold iM; rw [if_neg (by omega)]) (fun υ => if_neg (by decide)) (fun υ => by rw [if_neg (by decide), if_neg (by decide), if_neg (by decide), if_neg (by decide), if_neg (by decide), if_neg (by decide), if_neg (by decide), if_neg (by decide), if_neg (by decide)])
    · have mr := mny_r X (w := 0) (by decide) (by decide)
      refine ⟨-1, ?_, ?_⟩
      · rw [if_neg (by omega), e_x_name_44, k_many 0 (by omega), Option.bind_some]
        exact if_neg (by omega)
      · rw [e_m_name3_41, m_told X 0 (by omega), Option.bind_some]
        show ((c_m_in d τ i 0 (w32 (mny σ 0 - 1))).bind _) = _
        rw [w32_ok (by omega), s_m_in (by omega), Option.bind_some, decide_eq_false (by omega)]
        exact if_pos rfl
  · by_cases c8 : 0 ≤ w ∧ w ≤ 8
    · have xC : c_x_name (d + 1) σ w i k = (if i < 0 then some (-1, σ) else x_name_44 d σ w i k 0 w i) := by
        rw [e_x_name, if_neg c11, e_x_name_11, if_neg (by omega), if_neg (by omega), e_x_name_28]
        by_cases i0 : i < 0
        · rw [if_pos i0, if_pos i0]
        · rw [if_neg i0, if_neg i0, if_pos rfl]
      have xM : c_m_name3 (d + 1) τ w i k = m_name3_41 d τ w i k w 0 i := by
        rw [e_m_name3, if_neg c11, e_m_name3_11, if_pos rfl, s_m_in (by omega), Option.bind_some, decide_eq_true c8]
        refine (if_neg b2i_n).trans ?_
        show m_name3_28 d τ w i k 0 = _
        rw [e_m_name3_28, if_pos rfl]
      rw [xC, xM]
      refine body 0 w w (sM w i) c8 (by omega) (by omega) rfl (fun _ _ => by unfold iM; rw [if_neg (by omega)]) (fun υ => if_pos rfl) (fun υ => ?_)
      have e : w = 0 ∨ w = 1 ∨ w = 2 ∨ w = 3 ∨ w = 4 ∨ w = 5 ∨ w = 6 ∨ w = 7 ∨ w = 8 := by omega
      rcases e with e | e | e | e | e | e | e | e | e <;> subst e <;> rfl
    · refine ⟨-1, ?_, ?_⟩
      · rw [e_x_name, if_neg c11, e_x_name_11]
        by_cases w0 : w < 0
        · rw [if_pos w0]
        · rw [if_neg w0, if_pos (by omega), if_pos rfl]
      · rw [e_m_name3, if_neg c11, e_m_name3_11, if_pos rfl, s_m_in (by omega), Option.bind_some, decide_eq_false c8]
        exact if_pos rfl
end

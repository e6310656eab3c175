/-! what stands in a bracket is said, on both sides -/
section
variable {σ τ : ga_S}
theorem br_J (A : AP σ τ) {nk noun c a : Int} {M : Nat} (hn : IVk σ nk noun) (hno : (nk ≠ -1 → τ fM_nounObject 0 0 = noun) ∧ (τ fM_nounObject 0 0 = -1 ↔ nk = -1)) (kN : kO σ nk) (ha : 0 ≤ a) (hac : a ≤ c) (hc : c ≤ σ fT_size 0 0) (hN : brN (σ fT_bytes 0) c a M) (hB : brV σ (kx (σ fT_bytes 0) c a) (nx (σ fT_bytes 0) c a) nk M = true) (w : WI (σ fT_bytes 0) c a M τ) {d : Nat} (hd : 8 ≤ d) : ∃ σ' τ', c_u_bracket d σ a c noun = some (0, σ') ∧ c_m_saysInside d τ = some (1, τ') ∧ fr (bkL ++ ouC) σ σ' ∧ fr (fM_numberLong :: ouM) τ τ' ∧ AP σ' τ' := by
  obtain ⟨d, rfl⟩ : ∃ e, d = e + 1 := ⟨d - 1, by omega⟩
  have AA := A
  obtain ⟨⟨Q, al, dry, _⟩, ⟨g, X⟩, _⟩ := A
  obtain ⟨_, ⟨b1, b2, b3, b4, b5, b6⟩, ⟨_, aR, iT⟩, ⟨hk, _⟩, _⟩ := Q
  have nn1 : ∀ {ρ : Type} (x : Option ρ), ga_nn 1 x = x := fun x => nn_ok _ (by decide)
  obtain ⟨σ1, M', x1, x2, x3, x4, x5, x6, x7, x8, x9⟩ := s_t_inside (σ := σ) (d := d) (by omega) (v := 1) (a := a) (n := c) (by decide) aR iT ha hac (by omega)
  rw [b2] at x6 x7 x8 x9
  have eM : M = M' := brN_u hN ⟨x6, x7⟩
  rw [← eM] at x4 x5 x6 x7 x8 x9
  clear eM M'
  obtain ⟨B, eB⟩ : ∃ z, z = σ fT_bytes 0 := ⟨_, rfl⟩
  rw [← eB] at x6 x7 x8 x9 hN hB w b1 b2
  have A1 : AP σ1 τ := AP_f AA x2 (by decide +kernel) (fr_refl [] τ) (by decide +kernel)
  obtain ⟨_, ⟨g1, X1⟩, _⟩ := id A1
  have R1 := X1.2.2.1.1
  have Wd1 := X1.1.2.2.2.2.2.2.2.2.2.1
  have T1 : INT σ1 B c a M σ1 := x8
  have eB1 : σ1 fT_bytes 1 = B := by rw [x2 _ (by decide)]; exact b2
  have es1 : σ1 fT_size 1 0 = σ fT_size 0 0 := by rw [x2 _ (by decide)]; exact b5
  have sz1 : σ1 fT_size 1 0 ≤ 5000 := by rw [es1]; exact b6.2
  have bR : ∀ q, -128 ≤ B q ∧ B q < 128 := by rw [eB]; exact b3
  have hc1 : c ≤ σ1 fT_size 1 0 := by rw [es1]; exact hc
  have p0 := (sP_r (B := B) (x := true) (n := c) (a := a) ⟨ha, hac⟩ M).1
  have M64 := w.2.1
  have hM : (M : Int) ≤ 5000 := by omega
  have e01 : ∀ F, F ∈ sdF → σ1 F = σ F := fr_mem x2 (by decide)
  have be := brV_e e01
  rw [← be.1] at hB
  obtain ⟨k, ek⟩ : ∃ z, z = kx B c a := ⟨_, rfl⟩
  obtain ⟨nm, enm⟩ : ∃ z, z = nx B c a := ⟨_, rfl⟩
  have kk : ∀ q : Int, 0 ≤ q → q ≤ M → σ1 fT_kinds 1 q = k q := fun q x y => by rw [ek]; exact INT_k T1 x y
  have l23 : ∀ q, 0 ≤ q → u_bracket_23 d σ1 noun M q = u_bracket_52 d σ1 noun M (sk (fun q => decide (k q ≠ 16)) M q) := by
    refine pos_ind (M : Int) fun q ih h0 => ?_
    rw [e_u_bracket_23, show (0 + 1 : Int) = 1 from rfl]
    by_cases y : q < (M : Int)
    · rw [if_pos y, nn1, nn1, ck_ok _ (by omega), kk q h0 (by omega)]
      by_cases z : k q = 16
      · rw [if_pos z, sk_x y (decide_eq_false (fun v => v z))]
      · rw [if_neg z, w32_ok (by omega), ih (q + 1) (by omega) y (by omega), sk_s y (decide_eq_true z)]
    · rw [if_neg y, sk_n (by omega)]
  have eo : sk (fun q => decide (k q ≠ 16)) (M : Int) 0 = ofK k M := rfl
  have runC : c_u_bracket (d + 1) σ a c noun = u_bracket_52 d σ1 noun M (ofK k M) := by
    rw [e_u_bracket, show (0 + 1 : Int) = 1 from rfl, nn1, x1, Option.bind_some]
    show ga_nn 1 (u_bracket_23 d σ1 noun (w32 (σ1 fT_count 1 0 - 1)) 0) = _
    rw [nn1, x4, show ((M + 1 : Nat) : Int) - 1 = (M : Int) by push_cast; omega, w32_ok (by omega), l23 0 (Int.le_refl _), eo]
  have o24 := X1.1.2.1.2.1
  have iv : ∀ i : Int, inTh σ1 k nm nk i M ≠ -1 → 0 ≤ (if inTh σ1 k nm nk i M = -3 then noun else inTh σ1 k nm nk i M) ∧ (if inTh σ1 k nm nk i M = -3 then noun else inTh σ1 k nm nk i M) < σ1 fW_objects 0 0 ∧ (if inTh σ1 k nm nk i M = -3 then τ fM_nounObject 0 0 else inTh σ1 k nm nk i M) = (if inTh σ1 k nm nk i M = -3 then noun else inTh σ1 k nm nk i M) ∧ isB (σ1 fW_parents 0) (σ1 fW_kindOf 0 (if inTh σ1 k nm nk i M = -3 then noun else inTh σ1 k nm nk i M)) (kdT σ1 (-1) nk (inTh σ1 k nm nk i M)) = true := by
    intro i z
    have fo := X1.1.1.1
    rcases (inTh_R R1 Wd1 k nm nk i M).resolve_left z with u | u | u
    · exact absurd rfl u.2
    · have v := hn u.2
      rw [if_pos u.1, if_pos u.1, hno.1 u.2, u.1, x2 fW_objects (by decide), x2 fW_parents (by decide), x2 fW_kindOf (by decide)]
      exact ⟨v.1.1, v.1.2, rfl, v.2⟩
    · have n3 : ¬ inTh σ1 k nm nk i M = -3 := by omega
      have wo := X1.1.2.1.2.2.2 _ u.1 u.2
      rw [if_neg n3, if_neg n3]
      refine ⟨u.1, u.2, rfl, ?_⟩
      unfold kdT
      rw [if_neg (by omega), if_neg n3]
      exact isB_rf fo wo.1 wo.2.1
  rw [← ek, ← enm] at hB
  rcases sI_go (σ := σ1) (k := k) (nm := nm) (nk := nk) (d := d) w.1 M64 (fun q => by rw [ek]; exact kx_0 _ _ _ _) (fun q x y => by rw [ek]; exact m_key hk w x y (by omega)) (fun i x y => by rw [ek, enm]; exact m_insideThingG R1 hk w (Or.inr ⟨dry, hno.2⟩) x y (by omega)) (fun i => inTh_R R1 Wd1 k nm nk i M) hB with ⟨o, n0, V, runM⟩ | ⟨o2, ol, f1, n1, n2, ow, runM⟩
  · -- a thing alone
    obtain ⟨v1, v2, v3, v4⟩ := iv 0 n0
    have n0' := n0
    rw [ek, enm] at n0'
    obtain ⟨σ2, t1, t2⟩ := u_thingAt R1 eB1 sz1 bR ha hac hc1 T1 hM (nk := nk) (noun := noun) (i := 0) (Int.le_refl _) (by omega) n0' (d := d) (by omega)
    rw [← ek, ← enm] at t1
    obtain ⟨ob, eob⟩ : ∃ z, z = (if inTh σ1 k nm nk 0 M = -3 then noun else inTh σ1 k nm nk 0 M) := ⟨_, rfl⟩
    rw [v3] at runM
    rw [← eob] at t1 v1 v2 runM
    have A2 : AP σ2 τ := AP_f A1 t2 (by decide +kernel) (fr_refl [] τ) (by decide +kernel)
    obtain ⟨_, ⟨g2, X2⟩, _⟩ := id A2
    have tl := X2.2.2.2.2.2.2.2.2.2.1.1 ob v1 (by rw [t2 _ (by decide)]; exact v2)
    rcases en_J X2 (s := 2) (n := ob) (ms := 4) (by decide) rfl (by unfold iM; rw [if_neg (by omega)]) (d := d) (d' := d) (by omega) (by omega) with ⟨_, _, z⟩ | ⟨q, q', e1, e2, lv, es, hk', em⟩
    · exact absurd tl z
    · obtain ⟨σ', τ', c1, c2, c3, c4, c5⟩ := we_J X2 lv (by rw [es]; decide) hk' em (OJ_AP A2) (d := d) (by omega)
      refine ⟨σ', τ', ?_, ?_, fr_trans (fr_sub x2 (by decide)) (fr_trans (fr_sub t2 (by decide)) (fr_sub c3 (by decide))), fr_sub c4 (by decide), AP_out A2 c3 c4 c5⟩
      · rw [runC, e_u_bracket_52, if_pos o, t1, Option.bind_some]
        show ((c_d_entry d σ2 2 ob).bind fun q7 => (c_u_writeWords d q7.2 q7.1).bind fun q8 => some ((0 : Int), q8.2)) = _
        rw [e1, Option.bind_some]
        show ((c_u_writeWords d σ2 q).bind fun q8 => some ((0 : Int), q8.2)) = _
        rw [c1, Option.bind_some]
      · rw [runM, e_m_saysInside_124, if_pos rfl, if_pos dry, e2, Option.bind_some]
        show ((c_m_putLex d τ q').bind fun q7 => some ((1 : Int), q7.2)) = _
        rw [c2, Option.bind_some]
  · -- a property
    obtain ⟨v1, v2, v3, v4⟩ := iv (ofK k M + 1) n1
    have n1' := n1
    rw [ek, enm] at n1'
    obtain ⟨σ2, t1, t2⟩ := u_thingAt R1 eB1 sz1 bR ha hac hc1 T1 hM (nk := nk) (noun := noun) (i := ofK (kx B c a) M + 1) (by rw [← ek]; omega) (by rw [← ek]; omega) n1' (d := d) (by omega)
    rw [← ek, ← enm] at t1
    obtain ⟨T, eT⟩ : ∃ z, z = inTh σ1 k nm nk (ofK k M + 1) M := ⟨_, rfl⟩
    obtain ⟨ob, eob⟩ : ∃ z, z = (if inTh σ1 k nm nk (ofK k M + 1) M = -3 then noun else inTh σ1 k nm nk (ofK k M + 1) M) := ⟨_, rfl⟩
    rw [v3] at runM
    rw [← eob] at t1 v1 v2 v4 runM
    rw [← eT] at ow v4 runM
    have A2 : AP σ2 τ := AP_f A1 t2 (by decide +kernel) (fr_refl [] τ) (by decide +kernel)
    have T2 : INT σ2 B c a M σ2 := INT_f (σ0 := σ1) T1 t2 (by decide)
    obtain ⟨σ3, s1, s2, s3⟩ := u_spell1 (σ := σ2) (B := B) (by rw [t2 _ (by decide)]; exact eB1) (by rw [t2 _ (by decide)]; exact sz1) bR ha hac (by rw [t2 _ (by decide)]; exact hc1) T2 hM (i := 1) (j := ofK k M) (by decide) (by omega) (by omega) (d := d) (by omega)
    rw [← enm] at s3
    have A3 : AP σ3 τ := AP_f A2 s2 (by decide +kernel) (fr_refl [] τ) (by decide +kernel)
    obtain ⟨_, ⟨g2, X2⟩, _⟩ := id A2
    have f13 : fr spL σ1 σ3 := fr_trans t2 s2
    have R2 := X2.2.2.1.1
    have o5 := u_of R2 s2 s3 (d := d) (by omega) 5
    have dd := dic_c (fr_mem t2 (M := dicL) (by decide))
    rw [dd.2.1] at o5
    obtain ⟨P, eP⟩ : ∃ z, z = dN σ1 (nm 1 (ofK k M)) 5 := ⟨_, rfl⟩
    rw [← eP] at n2 ow o5
    have pr := (dN_rg R1 Wd1 (nm 1 (ofK k M)) 5).resolve_left (by rw [← eP]; exact n2)
    rw [← eP] at pr
    have m5 : mxN σ1 5 = σ1 fW_properties 0 0 := rfl
    have p12 := X1.1.2.2.2.2.2.1.2.1
    obtain ⟨σ', τ', c1, c2, c3, c4, c5⟩ := wp_J A3 (o := ob) (p := P) ⟨v1, by rw [f13 _ (by decide)]; exact v2⟩ ⟨pr.1, by rw [f13 _ (by decide)]; omega⟩ (d := d) (by omega)
    refine ⟨σ', τ', ?_, ?_, fr_trans (fr_sub x2 (by decide)) (fr_trans (fr_sub f13 (by decide)) (fr_sub c3 (by decide))), c4, c5⟩
    · rw [runC, e_u_bracket_52, if_neg (by omega), w32_ok (by omega), t1, Option.bind_some]
      show ((c_d_spellT d σ2 (0 + 1) 1 (ofK k M)).bind fun q3 => (c_d_of d q3.2 5).bind fun q4 => (c_u_writeProperty d q4.2 ob q4.1).bind fun q5 => some ((0 : Int), q5.2)) = _
      rw [show (0 + 1 : Int) = 1 from rfl, s1, Option.bind_some]
      show ((c_d_of d σ3 5).bind fun q4 => (c_u_writeProperty d q4.2 ob q4.1).bind fun q5 => some ((0 : Int), q5.2)) = _
      rw [o5, Option.bind_some]
      show ((c_u_writeProperty d σ3 ob P).bind fun q5 => some ((0 : Int), q5.2)) = _
      rw [c1, Option.bind_some]
    · obtain ⟨k', g1', g2', g3'⟩ := m_foundS R1 hk w (i := 1) (n := ofK k M - 1) (by decide) (by omega) (by omega) (s := 5) (ms := 7) (Or.inr ⟨rfl, rfl⟩) (d := d) (by omega)
      have ef : fnV σ1 k nm 1 (ofK k M) 5 = P := by unfold fnV; rw [if_pos f1, eP]
      rw [show (1 : Int) + (ofK k M - 1) = ofK k M by omega, ← ek, ← enm, ef] at g2' g3'
      have t := g3' n2
      have W1 := X1.1
      have wo := W1.2.1.2.2.2 ob v1 v2
      have fo := W1.1.1
      have oo : own σ1 (σ1 fW_kindOf 0 ob) P = true := own_B fo (by omega) wo.2.1 v4 ow
      have Wp := W1.2.2.2.2.2.1
      have o2' := s_m_has (τ := τ) fo W1.1.2.2.2.1 (d := d) (by omega) (p := P) (by omega) (b := fun k => bitI (σ1 fW_propertyKinds 0 P) k) (fun k k0 k1 => Wp.2.2.2.2 k P k0 k1 (by omega) (by omega)) (k := σ1 fW_kindOf 0 ob) (by omega) wo.2.1
      have o2'' : c_m_has d τ (τ fM_kindOf 0 ob) P = some (1, τ) := by
        rw [wo.2.2, o2']
        show some (b2i (own σ1 (σ1 fW_kindOf 0 ob) P), τ) = _
        rw [oo]; rfl
      rw [runM, e_m_saysInside_124, if_neg (by decide), w32_ok (by omega), g1', Option.bind_some]
      refine (if_neg (show ¬ k' = -1 by omega)).trans ?_
      show ga_ck k' 300 (if τ fM_lexSort 0 k' = 7 then ga_ck k' 300 (m_saysInside_189 d τ (mT T) ob (τ fM_lexIndex 0 k')) else _) = _
      rw [ck_ok _ (by omega), if_pos t.2.2.2.1, ck_ok _ (by omega), t.2.2.2.2, e_m_saysInside_189, if_pos dry, ck_ok _ (by omega), e_m_saysInside_213, if_neg n2, o2'', Option.bind_some]
      refine (if_neg (show ¬ (1 : Int) = 0 by decide)).trans ?_
      refine (if_pos dry).trans ?_
      show ((c_m_putProperty d τ ob P).bind fun q10 => some ((1 : Int), q10.2)) = _
      rw [c2, Option.bind_some]
end

/-! a new object, on both sides -/
def noW : List Nat := [fW_objects, fW_kindOf, fW_placed, fW_placeAt, fW_ways]
def noM : List Nat := [fM_objects, fM_kindOf, fM_way, fM_there, fM_objectIs, fM_objectTold]
theorem k_newO35 {d : Nat} {o : Int} (ho : 0 ≤ o ∧ o < 24) : ∀ k, 0 ≤ k → ∀ ρ : ga_S, ∃ ρ', w_newObject_35 d ρ o k = some (o, ρ') ∧ fr [fW_ways] ρ ρ' ∧ ∀ n i, ρ' fW_ways n i = if n = o ∧ k ≤ i ∧ i < 6 then -1 else ρ fW_ways n i := by
  refine rg_ind (n := 6) ?_ ?_
  · intro k h h0 ρ
    refine ⟨ρ, ?_, fr_refl _ _, fun n i => ?_⟩
    · rw [e_w_newObject_35, if_neg (by omega)]
    · rw [if_neg (by omega)]
  · intro k h ih h0 ρ
    obtain ⟨ρ', a1, a2, a3⟩ := ih (by omega) (ga_up ρ fW_ways o k (-1))
    refine ⟨ρ', ?_, fr_trans (fr_u (by decide)) a2, fun n i => ?_⟩
    · rw [e_w_newObject_35, if_pos h, ck_ok _ ho, nn_ok _ ho.1, ck_ok _ (by omega), w32_ok (x := k + 1) (by omega), a1]
    · rw [a3, up_nat]
      by_cases c : n = o ∧ k + 1 ≤ i ∧ i < 6
      · rw [if_pos c, if_pos (by omega)]
      · rw [if_neg c]
        by_cases c2 : n = o ∧ i = k
        · rw [if_pos c2, if_pos (by omega)]
        · rw [if_neg c2, if_neg (by omega)]
theorem k_newObject {ρ : ga_S} {o kd : Int} (ho : ρ fW_objects 0 0 = o) (h0 : 0 ≤ o ∧ o < 24) {d : Nat} (hd : 1 ≤ d) : ∃ ρ', c_w_newObject d ρ kd = some (o, ρ') ∧ fr noW ρ ρ' ∧ ρ' fW_objects 0 0 = o + 1 ∧ (∀ i, ρ' fW_kindOf 0 i = if i = o then kd else ρ fW_kindOf 0 i) ∧ (∀ i, ρ' fW_placed 0 i = if i = o then 0 else ρ fW_placed 0 i) ∧ (∀ i, ρ' fW_placeAt 0 i = if i = o then -1 else ρ fW_placeAt 0 i) ∧ (∀ n i, ρ' fW_ways n i = if n = o ∧ 0 ≤ i ∧ i < 6 then -1 else ρ fW_ways n i) := by
  obtain ⟨d, rfl⟩ : ∃ e, d = e + 1 := ⟨d - 1, by omega⟩
  have run0 := e_w_newObject d ρ kd
  rw [ho, ck_ok _ h0, ck_ok _ h0, ck_ok _ h0, w32_ok (x := o + 1) (by omega)] at run0
  obtain ⟨ρ1, e1⟩ : ∃ x, x = ga_up (ga_up (ga_up (ga_up ρ fW_objects 0 0 (o + 1)) fW_kindOf 0 o kd) fW_placed 0 o 0) fW_placeAt 0 o (-1) := ⟨_, rfl⟩
  rw [← e1] at run0
  have f1 : fr noW ρ ρ1 := by rw [e1]; exact fr_trans (fr_u (by decide)) (fr_trans (fr_u (by decide)) (fr_trans (fr_u (by decide)) (fr_u (by decide))))
  obtain ⟨ρ', a1, a2, a3⟩ := k_newO35 (d := d) h0 0 (Int.le_refl _) ρ1
  rw [a1] at run0
  refine ⟨ρ', run0, fr_trans f1 (fr_sub a2 (by decide)), ?_, fun i => ?_, fun i => ?_, fun i => ?_, fun n i => ?_⟩
  · rw [a2 _ (by decide), e1, up_F (by decide), up_F (by decide), up_F (by decide), up_eq]
  · rw [a2 _ (by decide), e1, up_F (by decide), up_F (by decide), up_at, up_F (by decide)]
  · rw [a2 _ (by decide), e1, up_F (by decide), up_at, up_F (by decide), up_F (by decide)]
  · rw [a2 _ (by decide), e1, up_at, up_F (by decide), up_F (by decide), up_F (by decide)]
  · rw [a3, e1, up_F (by decide), up_F (by decide), up_F (by decide), up_F (by decide)]
theorem m_ao61 {d : Nat} {o : Int} (ho : 0 ≤ o ∧ o < 24) : ∀ k, 0 ≤ k → ∀ υ : ga_S, υ fM_objects 0 0 = o → ∃ υ', m_addObject_61 d υ k = some (o, υ') ∧ fr [fM_objectTold, fM_objects] υ υ' ∧ υ' fM_objects 0 0 = o + 1 ∧ ∀ i, υ' fM_objectTold 0 i = if 12 * o + k ≤ i ∧ i < 12 * o + 12 then 0 else υ fM_objectTold 0 i := by
  refine rg_ind (n := 12) ?_ ?_
  · intro k h h0 υ hk
    refine ⟨ga_up υ fM_objects 0 0 (o + 1), ?_, fr_u (by decide), up_eq .., fun i => ?_⟩
    · rw [e_m_addObject_61, if_neg (by omega), hk, w32_ok (x := o + 1) (by omega), w32_ok (x := o + 1 - 1) (by omega), show o + 1 - 1 = o by omega]
    · rw [if_neg (by omega), up_F (by decide)]
  · intro k h ih h0 υ hk
    obtain ⟨υ', a1, a2, a3, a4⟩ := ih (by omega) (ga_up υ fM_objectTold 0 (12 * o + k) 0) (by rw [up_F (by decide)]; exact hk)
    refine ⟨υ', ?_, fr_trans (fr_u (by decide)) a2, a3, fun i => ?_⟩
    · rw [e_m_addObject_61, if_pos h, hk, w32_ok (x := 12 * o) (by omega), w32_ok (x := 12 * o + k) (by omega), ck_ok _ (by omega), w32_ok (x := k + 1) (by omega), a1]
    · rw [a4, up_at]
      by_cases c : i = 12 * o + k
      · rw [if_neg (by omega), if_pos c, if_pos (by omega)]
      · by_cases c2 : 12 * o + (k + 1) ≤ i ∧ i < 12 * o + 12
        · rw [if_pos c2, if_pos (by omega)]
        · rw [if_neg c2, if_neg c, if_neg (by omega)]
theorem m_ao32 {d : Nat} {o : Int} (ho : 0 ≤ o ∧ o < 24) : ∀ k, 0 ≤ k → ∀ υ : ga_S, υ fM_objects 0 0 = o → ∃ υ', m_addObject_32 d υ k = m_addObject_61 d υ' 0 ∧ fr [fM_objectIs] υ υ' ∧ ∀ i, υ' fM_objectIs 0 i = if 24 * o + k ≤ i ∧ i < 24 * o + 24 then 0 else υ fM_objectIs 0 i := by
  refine rg_ind (n := 24) ?_ ?_
  · intro k h h0 υ hk
    refine ⟨υ, ?_, fr_refl _ _, fun i => ?_⟩
    · rw [e_m_addObject_32, if_neg (by omega)]
    · rw [if_neg (by omega)]
  · intro k h ih h0 υ hk
    obtain ⟨υ', a1, a2, a4⟩ := ih (by omega) (ga_up υ fM_objectIs 0 (24 * o + k) 0) (by rw [up_F (by decide)]; exact hk)
    refine ⟨υ', ?_, fr_trans (fr_u (by decide)) a2, fun i => ?_⟩
    · rw [e_m_addObject_32, if_pos h, hk, w32_ok (x := 24 * o) (by omega), w32_ok (x := 24 * o + k) (by omega), ck_ok _ (by omega), w32_ok (x := k + 1) (by omega), a1]
    · rw [a4, up_at]
      by_cases c : i = 24 * o + k
      · rw [if_neg (by omega), if_pos c, if_pos (by omega)]
      · by_cases c2 : 24 * o + (k + 1) ≤ i ∧ i < 24 * o + 24
        · rw [if_pos c2, if_pos (by omega)]
        · rw [if_neg c2, if_neg c, if_neg (by omega)]
theorem m_addObject {υ : ga_S} {o kd : Int} (ho : υ fM_objects 0 0 = o) (h0 : 0 ≤ o ∧ o < 24) {d : Nat} (hd : 1 ≤ d) : ∃ υ', c_m_addObject d υ kd = some (o, υ') ∧ fr noM υ υ' ∧ υ' fM_objects 0 0 = o + 1 ∧ (∀ i, υ' fM_kindOf 0 i = if i = o then kd else υ fM_kindOf 0 i) ∧ (∀ i, υ' fM_way 0 i = if i = o then 0 else υ fM_way 0 i) ∧ (∀ i, υ' fM_there 0 i = if i = o then -1 else υ fM_there 0 i) ∧ (∀ i, υ' fM_objectIs 0 i = if 24 * o ≤ i ∧ i < 24 * o + 24 then 0 else υ fM_objectIs 0 i) ∧ (∀ i, υ' fM_objectTold 0 i = if 12 * o ≤ i ∧ i < 12 * o + 12 then 0 else υ fM_objectTold 0 i) := by
  obtain ⟨d, rfl⟩ : ∃ e, d = e + 1 := ⟨d - 1, by omega⟩
  have run0 := e_m_addObject d υ kd
  rw [ho, ck_ok _ h0, ck_ok _ h0, ck_ok _ h0] at run0
  obtain ⟨υ1, e1⟩ : ∃ x, x = ga_up (ga_up (ga_up υ fM_kindOf 0 o kd) fM_way 0 o 0) fM_there 0 o (-1) := ⟨_, rfl⟩
  rw [← e1] at run0
  have f1 : fr [fM_kindOf, fM_way, fM_there] υ υ1 := by rw [e1]; exact fr_trans (fr_u (by decide)) (fr_trans (fr_u (by decide)) (fr_u (by decide)))
  obtain ⟨υ2, a1, a2, a3⟩ := m_ao32 (d := d) h0 0 (Int.le_refl _) υ1 (by rw [f1 _ (by decide)]; exact ho)
  obtain ⟨υ3, b1, b2, b3, b4⟩ := m_ao61 (d := d) h0 0 (Int.le_refl _) υ2 (by rw [a2 _ (by decide), f1 _ (by decide)]; exact ho)
  rw [a1, b1] at run0
  refine ⟨υ3, run0, fr_trans (fr_sub f1 (by decide)) (fr_trans (fr_sub a2 (by decide)) (fr_sub b2 (by decide))), b3, fun i => ?_, fun i => ?_, fun i => ?_, fun i => ?_, fun i => ?_⟩
  · rw [b2 _ (by decide), a2 _ (by decide), e1, up_F (by decide), up_F (by decide), up_at]
  · rw [b2 _ (by decide), a2 _ (by decide), e1, up_F (by decide), up_at, up_F (by decide)]
  · rw [b2 _ (by decide), a2 _ (by decide), e1, up_at, up_F (by decide), up_F (by decide)]
  · rw [b2 _ (by decide), a3, f1 _ (by decide), show 24 * o + 0 = 24 * o by omega]
  · rw [b4, a2 _ (by decide), f1 _ (by decide), show 12 * o + 0 = 12 * o by omega]
/-- the world with one more object, the dictionaries left out -/
theorem W_newObj {ρ υ ρ1 υ1 ρ' υ' : ga_S} {o kd : Int} (W : WK ρ υ) (R5 : RW5 ρ υ) (ho : ρ fW_objects 0 0 = o) (h24 : o < 24) (hk : 0 ≤ kd ∧ kd < ρ fW_kinds 0 0)
    (b2 : fr noW ρ ρ1) (b3 : ρ1 fW_objects 0 0 = o + 1) (b4 : ∀ i, ρ1 fW_kindOf 0 i = if i = o then kd else ρ fW_kindOf 0 i) (b5 : ∀ i, ρ1 fW_placed 0 i = if i = o then 0 else ρ fW_placed 0 i) (b6 : ∀ i, ρ1 fW_placeAt 0 i = if i = o then -1 else ρ fW_placeAt 0 i) (b7 : ∀ n i, ρ1 fW_ways n i = if n = o ∧ 0 ≤ i ∧ i < 6 then -1 else ρ fW_ways n i)
    (c2 : fr noM υ υ1) (c3 : υ1 fM_objects 0 0 = o + 1) (c4 : ∀ i, υ1 fM_kindOf 0 i = if i = o then kd else υ fM_kindOf 0 i) (c5 : ∀ i, υ1 fM_way 0 i = if i = o then 0 else υ fM_way 0 i) (c7 : ∀ i, υ1 fM_there 0 i = if i = o then -1 else υ fM_there 0 i) (c8 : ∀ i, υ1 fM_objectIs 0 i = if 24 * o ≤ i ∧ i < 24 * o + 24 then 0 else υ fM_objectIs 0 i) (c9 : ∀ i, υ1 fM_objectTold 0 i = if 12 * o ≤ i ∧ i < 12 * o + 12 then 0 else υ fM_objectTold 0 i)
    (g1 : fr (dicL ++ spL) ρ1 ρ') (g2 : fr lexL υ1 υ') (Wd' : WKd ρ') (Wl' : WKl ρ') : WK ρ' υ' ∧ RW5 ρ' υ' := by
  obtain ⟨Wk, Wo, Wa, Wt, Wv, Wp, Wr, Wb, Wc, Wd, Wl⟩ := W
  obtain ⟨Rt, Rh, Rp, Ry, Re⟩ := R5
  have o1 := Wo.1
  have fC : fr (noW ++ dicL ++ spL) ρ ρ' := fr_trans (fr_sub b2 (by decide)) (fr_sub g1 (by decide))
  have fM : fr (noM ++ lexL) υ υ' := fr_trans (fr_sub c2 (by decide)) (fr_sub g2 (by decide))
  have b3' : ρ' fW_objects 0 0 = o + 1 := by rw [g1 _ (by decide)]; exact b3
  have c3' : υ' fM_objects 0 0 = o + 1 := by rw [g2 _ (by decide)]; exact c3
  have b4' : ∀ i, ρ' fW_kindOf 0 i = if i = o then kd else ρ fW_kindOf 0 i := by intro i; rw [g1 _ (by decide)]; exact b4 i
  have b5' : ∀ i, ρ' fW_placed 0 i = if i = o then 0 else ρ fW_placed 0 i := by intro i; rw [g1 _ (by decide)]; exact b5 i
  have b6' : ∀ i, ρ' fW_placeAt 0 i = if i = o then -1 else ρ fW_placeAt 0 i := by intro i; rw [g1 _ (by decide)]; exact b6 i
  have b7' : ∀ n i, ρ' fW_ways n i = if n = o ∧ 0 ≤ i ∧ i < 6 then -1 else ρ fW_ways n i := by intro n i; rw [g1 _ (by decide)]; exact b7 n i
  have c4' : ∀ i, υ' fM_kindOf 0 i = if i = o then kd else υ fM_kindOf 0 i := by intro i; rw [g2 _ (by decide)]; exact c4 i
  have c5' : ∀ i, υ' fM_way 0 i = if i = o then 0 else υ fM_way 0 i := by intro i; rw [g2 _ (by decide)]; exact c5 i
  have c7' : ∀ i, υ' fM_there 0 i = if i = o then -1 else υ fM_there 0 i := by intro i; rw [g2 _ (by decide)]; exact c7 i
  have c8' : ∀ i, υ' fM_objectIs 0 i = if 24 * o ≤ i ∧ i < 24 * o + 24 then 0 else υ fM_objectIs 0 i := by intro i; rw [g2 _ (by decide)]; exact c8 i
  have c9' : ∀ i, υ' fM_objectTold 0 i = if 12 * o ≤ i ∧ i < 12 * o + 12 then 0 else υ fM_objectTold 0 i := by intro i; rw [g2 _ (by decide)]; exact c9 i
  have Wo' : WKo ρ' υ' := by
    refine ⟨by omega, by omega, by omega, fun i z0 z1 => ?_⟩
    rw [b4', c4', fC fW_kinds (by decide)]
    by_cases q : i = o
    · rw [if_pos q, if_pos q]; exact ⟨hk.1, hk.2, rfl⟩
    · rw [if_neg q, if_neg q]; exact Wo.2.2.2 i z0 (by omega)
  have Rt' : RWt ρ' υ' := by
    obtain ⟨q1, q2, q3⟩ := Rt
    refine ⟨fun i z0 z1 => ?_, fun k z0 z1 => ?_, fun r a z z0 z1 => ?_⟩
    · by_cases c : i = o
      · subst c
        intro a a0 a1
        have t0 : ∀ b, 0 ≤ b → b < 24 → ρ fW_told i b = 0 := fun b b0 b1 => q3 i b (Or.inl ⟨by omega, by omega⟩) b0 b1
        rw [fC fW_told (by decide), fC fW_adjectives (by decide), fC fW_contraries (by decide), c8', if_pos (by omega), t0 a a0 a1]
        refine ⟨Or.inl rfl, ?_⟩
        by_cases c2 : a < ρ fW_adjectives 0 0 ∧ ρ fW_contraries 0 a ≠ -1
        · refine Or.inl ⟨c2.1, c2.2, ?_, Or.inl rfl⟩
          have w := ((Wa.2.2.2 a a0 c2.1).2.resolve_left (fun z => c2.2 z.1))
          have a24 := Wa.2.1
          unfold tv
          rw [fC fW_told (by decide), fC fW_contraries (by decide), t0 a a0 a1, if_pos rfl, t0 _ w.1 (by omega), if_pos rfl]
        · exact Or.inr ⟨by omega, rfl, rfl⟩
      · exact rowT_e (q1 i z0 (by omega)) (fC _ (by decide)) (fC _ (by decide)) (fC _ (by decide)) (fun a _ _ => by rw [c8', if_neg (by omega)])
    · rw [fC fW_kinds (by decide)] at z1
      exact rowT_e (q2 k z0 z1) (fC _ (by decide)) (fC _ (by decide)) (fC _ (by decide)) (fun a _ _ => by rw [fM _ (by decide)])
    · rw [b3', fC fW_kinds (by decide)] at z
      rw [fC fW_told (by decide)]
      exact q3 r a (by omega) z0 z1
  have fH : ∀ G, G ∈ [fW_has, fW_numbers, fW_lengths, fW_properties, fW_propertyTypes, fW_values, fW_valueTypes] → ρ' G = ρ G := fr_mem fC (by decide)
  have tz : ρ' fT_size 0 = ρ fT_size 0 ∧ ρ' fT_bytes 0 = ρ fT_bytes 0 := by rw [fC fT_size (by decide), fC fT_bytes (by decide)]; exact ⟨rfl, rfl⟩
  have Rh' : RWh ρ' υ' := by
    obtain ⟨q1, q2, q3⟩ := Rh
    refine ⟨fun i z0 z1 => ?_, fun k z0 z1 => ?_, fun r a z z0 z1 => ?_⟩
    · by_cases c : i = o
      · subst c
        intro a a0 a1
        have t0 : ρ' fW_has i a = 0 := by rw [fC fW_has (by decide)]; exact q3 i a (Or.inl ⟨by omega, by omega⟩) a0 a1
        rw [t0, c9', if_pos (by omega)]
        exact ⟨Or.inl rfl, rfl, fun z => absurd rfl z⟩
      · exact rowH_e (q1 i z0 (by omega)) fH tz (fun a _ _ => by rw [fM fM_objectSays (by decide), fM fM_objectLong (by decide), c9', if_neg (by omega)]; exact ⟨rfl, rfl, rfl⟩)
    · rw [fC fW_kinds (by decide)] at z1
      exact rowH_e (q2 k z0 z1) fH tz (fun a _ _ => by rw [fM fM_kindTold (by decide), fM fM_kindSays (by decide), fM fM_kindLong (by decide)]; exact ⟨rfl, rfl, rfl⟩)
    · rw [b3', fC fW_kinds (by decide)] at z
      rw [fC fW_has (by decide)]
      exact q3 r a (by omega) z0 z1
  have Rp' : RWp ρ' υ' := by
    obtain ⟨q1, Rk, q2⟩ := Rp
    refine ⟨fun i z0 z1 => ?_, Rk, fun i z0 z1 z2 => ?_⟩
    · rw [b5', b6', c5', c7', b3']
      by_cases c : i = o
      · rw [if_pos c, if_pos c, if_pos c, if_pos c]
        exact ⟨rfl, by omega, Or.inl ⟨rfl, rfl, rfl⟩⟩
      · rw [if_neg c, if_neg c, if_neg c, if_neg c]
        have w := q1 i z0 (by omega)
        refine ⟨w.1, w.2.1, ?_⟩
        rcases w.2.2 with w2 | w2
        · exact Or.inl w2
        · exact Or.inr ⟨w2.1, w2.2.1, w2.2.2.1, by omega⟩
    · rw [b5'] at z2
      by_cases c : i = o
      · rw [if_pos c] at z2; exact absurd rfl z2
      · rw [if_neg c] at z2
        rw [b6', if_neg c, b4', if_neg c, fC fW_parents (by decide)]
        exact q2 i z0 (by omega) z2
  have Ry' : RWy ρ' υ' := by
    obtain ⟨q1, q2, q3, q4⟩ := Ry
    unfold RWy
    rw [fC fW_toldWays (by decide), fC fW_wayFrom (by decide), fC fW_wayBy (by decide), fM fM_ways (by decide), fM fM_wayFrom (by decide), fM fM_wayBy (by decide), fM fM_wayTo (by decide), b3']
    refine ⟨q1, fun k z0 z1 => ?_, q3, fun i b z0 z1 z2 z3 => ?_⟩
    · have w := q2 k z0 z1
      rw [b7', if_neg (by omega)]
      exact ⟨by omega, w.2.1, w.2.2.1, w.2.2.2.1, w.2.2.2.2.1, w.2.2.2.2.2.1, by omega, by rw [b4', if_neg (by omega), fC fW_parents (by decide)]; exact w.2.2.2.2.2.2.2.1, by rw [b4', if_neg (by omega), fC fW_parents (by decide)]; exact w.2.2.2.2.2.2.2.2⟩
    · rw [b7']
      by_cases c : i = o
      · rw [if_pos ⟨c, z2, z3⟩]; exact Or.inl rfl
      · rw [if_neg (fun y => c y.1)]; exact q4 i b z0 (by omega) z2 z3
  exact ⟨⟨WKk_f Wk (fr_mem fC (by decide)) (fr_mem fM (by decide)), Wo', WKa_f Wa (fr_mem fC (by decide)) (fr_mem fM (by decide)), WKt_f Wt (fr_mem fC (by decide)) (fr_mem fM (by decide)), WKv_f Wv (fr_mem fC (by decide)) (fr_mem fM (by decide)), WKp_f Wp (fr_mem fC (by decide)) (fr_mem fM (by decide)), WKr_f Wr (fr_mem fC (by decide)) (fr_mem fM (by decide)), WKb_f Wb (fr_mem fC (by decide)) (fr_mem fM (by decide)), WKc_f Wc (fr_mem fC (by decide)) (fr_mem fM (by decide)), Wd', Wl'⟩, Rt', Rh', Rp', Ry', RWe_f Re (fr_mem fC (by decide)) (fr_mem fM (by decide))⟩

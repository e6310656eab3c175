/-! objects are moved, numbers rise and fall, on both sides -/
section
variable {σ τ : ga_S}
theorem m_mayHoldX {g : Int} (X : SX σ τ g) {k : Int} (hk : 0 ≤ k ∧ k < σ fW_kinds 0 0) (ps : Int) {d : Nat} (hd : 2 ≤ d) : c_m_mayHold d τ ps k = some (b2i (mayH σ ps k), τ) := by
  obtain ⟨d, rfl⟩ : ∃ e, d = e + 1 := ⟨d - 1, by omega⟩
  obtain ⟨e, rfl⟩ : ∃ e, d = e + 1 := ⟨d - 1, by omega⟩
  have wk := X.1.1
  have ib := fun a => s_m_isBelow wk.1 wk.2.2.2.1 (d := e + 1) (by omega) a (show -1 ≤ k by omega) hk.2
  rw [e_m_mayHold]
  unfold mayH
  by_cases q1 : ps = 1
  · rw [if_pos q1, if_pos q1, ib 1]
    simp only [Option.bind_some]
    cases x : isB (σ fW_parents 0) k 1 with
    | true => rw [if_neg b2i_n, e_m_mayHold_23, Bool.or_true]; rfl
    | false =>
      rw [if_pos b2i_f, ib 2, Bool.or_false]
      simp only [Option.bind_some]
      cases y : isB (σ fW_parents 0) k 2 with
      | true => rw [if_neg b2i_n, e_m_mayHold_23]; rfl
      | false => rw [if_pos b2i_f]; rfl
  · have kw : c_m_kindOfWay (e + 1) τ ps = some ((if ps = 2 then 3 else if ps = 3 then 0 else 4), τ) := by
      rw [e_m_kindOfWay]
      by_cases q2 : ps = 2
      · rw [if_pos q2, if_pos q2]
      · rw [if_neg q2, if_neg q2]
        by_cases q3 : ps = 3
        · rw [if_pos q3, if_pos q3]
        · rw [if_neg q3, if_neg q3]
    rw [if_neg q1, if_neg q1, kw]
    simp only [Option.bind_some]
    rw [ib]
    simp only [Option.bind_some]
    rw [z1_ok _ (b2i_01 _)]
/-- where an object comes to be -/
def plS9 (σ : ga_S) (k : Int) : Int := if isB (σ fW_parents 0) k 1 = true ∨ isB (σ fW_parents 0) k 2 = true then 1 else if isB (σ fW_parents 0) k 3 = true then 2 else if isB (σ fW_parents 0) k 4 = true then 4 else 3
theorem k_placeSort {g : Int} (X : SX σ τ g) {o : Int} (ho : 0 ≤ o ∧ o < σ fW_objects 0 0) {d : Nat} (hd : 3 ≤ d) : c_w_placeSort d σ o = some (plS9 σ (σ fW_kindOf 0 o), σ) := by
  obtain ⟨d, rfl⟩ : ∃ e, d = e + 1 := ⟨d - 1, by omega⟩
  have o24 := X.1.2.1.2.1
  have wo := X.1.2.1.2.2.2 o ho.1 ho.2
  have ik := fun a => s_w_isKind (σ := σ) X.1.1.1 (d := d) (by omega) (o := o) a (by omega) (by omega) wo.2.1
  unfold plS9
  rw [e_w_placeSort, ik 1, Option.bind_some]
  cases x1 : isB (σ fW_parents 0) (σ fW_kindOf 0 o) 1 with
  | true =>
    refine (if_neg b2i_n).trans ?_
    rw [if_pos (Or.inl rfl)]
    exact e_w_placeSort_18 d σ
  | false =>
    refine (if_pos b2i_f).trans ?_
    show ((c_w_isKind d σ o 2).bind fun q2 => if q2.1 = 0 then (c_w_isKind d q2.2 o 3).bind fun q3 => if q3.1 = 0 then (c_w_isKind d q3.2 o 4).bind fun q4 => if q4.1 = 0 then some ((3 : Int), q4.2) else some (4, q4.2) else some (2, q3.2) else w_placeSort_18 d q2.2) = _
    rw [ik 2, Option.bind_some]
    cases x2 : isB (σ fW_parents 0) (σ fW_kindOf 0 o) 2 with
    | true =>
      refine (if_neg b2i_n).trans ?_
      rw [if_pos (Or.inr rfl)]
      exact e_w_placeSort_18 d σ
    | false =>
      refine (if_pos b2i_f).trans ?_
      rw [if_neg (show ¬ ((false : Bool) = true ∨ (false : Bool) = true) by decide)]
      show ((c_w_isKind d σ o 3).bind fun q3 => if q3.1 = 0 then (c_w_isKind d q3.2 o 4).bind fun q4 => if q4.1 = 0 then some ((3 : Int), q4.2) else some (4, q4.2) else some (2, q3.2)) = _
      rw [ik 3, Option.bind_some]
      cases x3 : isB (σ fW_parents 0) (σ fW_kindOf 0 o) 3 with
      | true => exact (if_neg b2i_n).trans (by rw [if_pos rfl])
      | false =>
        rw [if_neg (show ¬ (false : Bool) = true by decide)]
        refine (if_pos b2i_f).trans ?_
        show ((c_w_isKind d σ o 4).bind fun q4 => if q4.1 = 0 then some ((3 : Int), q4.2) else some (4, q4.2)) = _
        rw [ik 4, Option.bind_some]
        cases x4 : isB (σ fW_parents 0) (σ fW_kindOf 0 o) 4 with
        | true => exact (if_neg b2i_n).trans (by rw [if_pos rfl])
        | false => exact (if_pos b2i_f).trans (by rw [if_neg (by decide)])
/-- an object is put somewhere -/
theorem put_AP (A : AP σ τ) {o p s : Int} (ho : 0 ≤ o ∧ o < σ fW_objects 0 0) (hp : 0 ≤ p ∧ p < σ fW_objects 0 0) (hs : 1 ≤ s ∧ s ≤ 5) (no : inW (σ fW_placeAt 0) o p = false) (th : isB (σ fW_parents 0) (σ fW_kindOf 0 o) 0 = true) {σ1 τ1 : ga_S} (e1 : σ1 = ga_up (ga_up σ fW_placed 0 o s) fW_placeAt 0 o p) (f2 : fr [fM_way, fM_there] τ τ1) (w1 : ∀ i, τ1 fM_way 0 i = if i = o then s else τ fM_way 0 i) (w2 : ∀ i, τ1 fM_there 0 i = if i = o then p else τ fM_there 0 i) : fr wpC σ σ1 ∧ fr wpM τ τ1 ∧ AP σ1 τ1 := by
  have AA := A
  obtain ⟨_, ⟨g, X⟩, _⟩ := A
  have f1 : fr [fW_placed, fW_placeAt] σ σ1 := by rw [e1]; exact fr_trans (fr_u (by decide)) (fr_u (by decide))
  have R := RWp_put (σ' := σ1) (τ' := τ1) X.2.1.2.2.1 X.1.2.1.2.1 ho hp hs no (f1 _ (by decide)) (fun i => by rw [e1, up_F (by decide), up_at]) (fun i => by rw [e1, up_at, up_F (by decide)]) w1 w2 (f1 _ (by decide)) (f1 _ (by decide)) th
  have k1 : fr wpC σ σ1 := fr_sub f1 (by decide)
  have k2 : fr wpM τ τ1 := fr_sub f2 (by decide)
  exact ⟨k1, k2, AP_w AA k1 k2 (RW5_3 X.2.1 f1 f2 R)⟩
theorem move_J (A : AP σ τ) {a b : Int} (ha : 0 ≤ a ∧ a < σ fW_objects 0 0) (hb : 0 ≤ b ∧ b < σ fW_objects 0 0) {d d' : Nat} (hd : 4 ≤ d) (hd' : 4 ≤ d') : ∃ σ' τ', c_u_move d σ a b = some (0, σ') ∧ c_m_moves d' τ a b = some (0, τ') ∧ fr wpC σ σ' ∧ fr wpM τ τ' ∧ AP σ' τ' := by
  obtain ⟨d, rfl⟩ : ∃ e, d = e + 1 := ⟨d - 1, by omega⟩
  obtain ⟨d', rfl⟩ : ∃ e, d' = e + 1 := ⟨d' - 1, by omega⟩
  have AA := A
  obtain ⟨_, ⟨g, X⟩, _⟩ := A
  have W := X.1
  have fo := W.1.1
  have o24 := W.2.1.2.1
  have wa := W.2.1.2.2.2 a ha.1 ha.2
  have wb := W.2.1.2.2.2 b hb.1 hb.2
  have ik := s_w_isKind (σ := σ) fo (d := d) (by omega) (o := a) 0 (by omega) (by omega) wa.2.1
  have mk := s_m_isBelow (τ := τ) fo W.1.2.2.2.1 (d := d') (by omega) (k := σ fW_kindOf 0 a) 0 (by omega) wa.2.1
  obtain ⟨R, rk, pw⟩ := RWp_rk X.2.1.2.2.1
  have iw := k_isWithin (σ := σ) rk o24 (t := a) (x := b) (by omega) hb (d := d) (by omega)
  have mw := m_isWithin (σ := σ) (τ := τ) rk o24 pw (t := a) (x := b) hb (d := d') (by omega)
  rw [e_u_move, e_m_moves, ck_ok _ (by omega), wa.2.2, ik, mk, Option.bind_some, Option.bind_some]
  cases th : isB (σ fW_parents 0) (σ fW_kindOf 0 a) 0 with
  | false => exact ⟨σ, τ, if_pos b2i_f, if_pos b2i_f, fr_refl _ _, fr_refl _ _, AA⟩
  | true =>
    have rC : (if (b2i true, σ).1 = 0 then some ((0 : Int), (b2i true, σ).2) else (c_w_isWithin d (b2i true, σ).2 b a).bind fun q2 => if q2.1 = 0 then (c_w_placeSort d q2.2 b).bind fun q3 => (c_w_put d q3.2 a q3.1 b).bind fun q4 => some (0, q4.2) else some (0, q2.2)) = (if b2i (inW (σ fW_placeAt 0) a b) = 0 then (c_w_placeSort d σ b).bind fun q3 => (c_w_put d q3.2 a q3.1 b).bind fun q4 => some (0, q4.2) else some (0, σ)) := by
      refine (if_neg b2i_n).trans ?_
      show ((c_w_isWithin d σ b a).bind fun q2 => if q2.1 = 0 then (c_w_placeSort d q2.2 b).bind fun q3 => (c_w_put d q3.2 a q3.1 b).bind fun q4 => some ((0 : Int), q4.2) else some (0, q2.2)) = _
      rw [iw, Option.bind_some]
    have rM : (if (b2i true, τ).1 = 0 then some ((0 : Int), (b2i true, τ).2) else (c_m_isWithin d' (b2i true, τ).2 b a).bind fun q2 => if q2.1 = 0 then ga_ck b 24 ((c_m_mayHold d' q2.2 1 (q2.2 fM_kindOf 0 b)).bind fun q3 => if q3.1 = 0 then ga_ck b 24 ((c_m_mayHold d' q3.2 2 (q3.2 fM_kindOf 0 b)).bind fun q4 => if q4.1 = 0 then ga_ck b 24 ((c_m_mayHold d' q4.2 4 (q4.2 fM_kindOf 0 b)).bind fun q5 => if q5.1 = 0 then m_moves_84 d' q5.2 a b 3 a else m_moves_84 d' q5.2 a b 4 a) else m_moves_84 d' q4.2 a b 2 a) else m_moves_84 d' q3.2 a b 1 a) else some (0, q2.2)) = (if b2i (inW (σ fW_placeAt 0) a b) = 0 then m_moves_84 d' τ a b (plS9 σ (σ fW_kindOf 0 b)) a else some (0, τ)) := by
      refine (if_neg b2i_n).trans ?_
      show ((c_m_isWithin d' τ b a).bind fun q2 => if q2.1 = 0 then ga_ck b 24 ((c_m_mayHold d' q2.2 1 (q2.2 fM_kindOf 0 b)).bind fun q3 => if q3.1 = 0 then ga_ck b 24 ((c_m_mayHold d' q3.2 2 (q3.2 fM_kindOf 0 b)).bind fun q4 => if q4.1 = 0 then ga_ck b 24 ((c_m_mayHold d' q4.2 4 (q4.2 fM_kindOf 0 b)).bind fun q5 => if q5.1 = 0 then m_moves_84 d' q5.2 a b 3 a else m_moves_84 d' q5.2 a b 4 a) else m_moves_84 d' q4.2 a b 2 a) else m_moves_84 d' q3.2 a b 1 a) else some ((0 : Int), q2.2)) = _
      rw [mw, Option.bind_some]
      cases inW (σ fW_placeAt 0) a b with
      | true =>
        refine (if_neg b2i_n).trans ?_
        rw [if_neg b2i_n]
      | false =>
        refine (if_pos b2i_f).trans ?_
        rw [if_pos b2i_f]
        show ga_ck b 24 ((c_m_mayHold d' τ 1 (τ fM_kindOf 0 b)).bind fun q3 => if q3.1 = 0 then ga_ck b 24 ((c_m_mayHold d' q3.2 2 (q3.2 fM_kindOf 0 b)).bind fun q4 => if q4.1 = 0 then ga_ck b 24 ((c_m_mayHold d' q4.2 4 (q4.2 fM_kindOf 0 b)).bind fun q5 => if q5.1 = 0 then m_moves_84 d' q5.2 a b 3 a else m_moves_84 d' q5.2 a b 4 a) else m_moves_84 d' q4.2 a b 2 a) else m_moves_84 d' q3.2 a b 1 a) = _
        rw [ck_ok _ (by omega), wb.2.2, m_mayHoldX X ⟨wb.1, wb.2.1⟩ 1 (by omega), Option.bind_some]
        have h1 : mayH σ 1 (σ fW_kindOf 0 b) = (isB (σ fW_parents 0) (σ fW_kindOf 0 b) 2 || isB (σ fW_parents 0) (σ fW_kindOf 0 b) 1) := by unfold mayH; rw [if_pos rfl]
        have h2 : mayH σ 2 (σ fW_kindOf 0 b) = isB (σ fW_parents 0) (σ fW_kindOf 0 b) 3 := by unfold mayH; rw [if_neg (by decide), if_pos rfl]
        have h4 : mayH σ 4 (σ fW_kindOf 0 b) = isB (σ fW_parents 0) (σ fW_kindOf 0 b) 4 := by unfold mayH; rw [if_neg (by decide), if_neg (by decide), if_neg (by decide)]
        unfold plS9
        cases x1 : mayH σ 1 (σ fW_kindOf 0 b) with
        | true =>
          rw [x1] at h1
          have : isB (σ fW_parents 0) (σ fW_kindOf 0 b) 1 = true ∨ isB (σ fW_parents 0) (σ fW_kindOf 0 b) 2 = true := by
            have := (Bool.or_eq_true _ _).mp h1.symm
            exact this.symm
          rw [if_pos this]
          exact if_neg b2i_n
        | false =>
          rw [x1] at h1
          have n1 : ¬ (isB (σ fW_parents 0) (σ fW_kindOf 0 b) 1 = true ∨ isB (σ fW_parents 0) (σ fW_kindOf 0 b) 2 = true) := by
            intro z
            have : (isB (σ fW_parents 0) (σ fW_kindOf 0 b) 2 || isB (σ fW_parents 0) (σ fW_kindOf 0 b) 1) = true := (Bool.or_eq_true _ _).mpr z.symm
            rw [← h1] at this; cases this
          rw [if_neg n1]
          refine (if_pos b2i_f).trans ?_
          show ga_ck b 24 ((c_m_mayHold d' τ 2 (τ fM_kindOf 0 b)).bind fun q4 => if q4.1 = 0 then ga_ck b 24 ((c_m_mayHold d' q4.2 4 (q4.2 fM_kindOf 0 b)).bind fun q5 => if q5.1 = 0 then m_moves_84 d' q5.2 a b 3 a else m_moves_84 d' q5.2 a b 4 a) else m_moves_84 d' q4.2 a b 2 a) = _
          rw [ck_ok _ (by omega), wb.2.2, m_mayHoldX X ⟨wb.1, wb.2.1⟩ 2 (by omega), Option.bind_some, h2]
          cases x2 : isB (σ fW_parents 0) (σ fW_kindOf 0 b) 3 with
          | true => rw [if_pos rfl]; exact if_neg b2i_n
          | false =>
            rw [if_neg (show ¬ (false : Bool) = true by decide)]
            refine (if_pos b2i_f).trans ?_
            show ga_ck b 24 ((c_m_mayHold d' τ 4 (τ fM_kindOf 0 b)).bind fun q5 => if q5.1 = 0 then m_moves_84 d' q5.2 a b 3 a else m_moves_84 d' q5.2 a b 4 a) = _
            rw [ck_ok _ (by omega), wb.2.2, m_mayHoldX X ⟨wb.1, wb.2.1⟩ 4 (by omega), Option.bind_some, h4]
            cases x4 : isB (σ fW_parents 0) (σ fW_kindOf 0 b) 4 with
            | true => rw [if_pos rfl]; exact if_neg b2i_n
            | false => rw [if_neg (show ¬ (false : Bool) = true by decide)]; exact if_pos b2i_f
    cases iwb : inW (σ fW_placeAt 0) a b with
    | true =>
      rw [iwb, if_neg b2i_n] at rC rM
      exact ⟨σ, τ, rC, rM, fr_refl _ _, fr_refl _ _, AA⟩
    | false =>
      rw [iwb, if_pos b2i_f] at rC rM
      have s14 : 1 ≤ plS9 σ (σ fW_kindOf 0 b) ∧ plS9 σ (σ fW_kindOf 0 b) ≤ 5 := by
        unfold plS9
        split
        · decide
        · split
          · decide
          · split <;> decide
      have S := put_AP AA ha hb s14 iwb th (σ1 := ga_up (ga_up σ fW_placed 0 a (plS9 σ (σ fW_kindOf 0 b))) fW_placeAt 0 a b) (τ1 := ga_up (ga_up τ fM_way 0 a (plS9 σ (σ fW_kindOf 0 b))) fM_there 0 a b) rfl (fr_trans (fr_u (by decide)) (fr_u (by decide))) (fun i => by rw [up_F (by decide), up_at]) (fun i => by rw [up_at, up_F (by decide)])
      refine ⟨_, _, rC.trans ?_, rM.trans ?_, S.1, S.2.1, S.2.2⟩
      · obtain ⟨e, rfl⟩ : ∃ e, d = e + 1 := ⟨d - 1, by omega⟩
        rw [k_placeSort X hb (by omega), Option.bind_some]
        show ((c_w_put (e + 1) σ a (plS9 σ (σ fW_kindOf 0 b)) b).bind fun q4 => some ((0 : Int), q4.2)) = _
        rw [e_w_put, ck_ok _ (by omega), ck_ok _ (by omega), Option.bind_some]
      · rw [e_m_moves_84, ck_ok _ (by omega), ck_ok _ (by omega)]
/-- a number rises or falls by x -/
theorem add_J (A : AP σ τ) {nk noun noun' s q x : Int} (hs : 0 ≤ s) (hq : 0 ≤ q ∧ q < 2400) (t3 : τ fM_qThing 0 q = mT (σ fS_thing s 0)) (t4 : thO σ (-1) nk (σ fS_thing s 0)) (hp : τ fM_qProperty 0 q = σ fS_which s 0) (pr : 0 ≤ σ fS_which s 0 ∧ σ fS_which s 0 < σ fW_properties 0 0) (ty : σ fW_propertyTypes 0 (σ fS_which s 0) = 0) (hx : -1000000 < x ∧ x < 1000000) (hn : IVk σ nk noun) (he : nk ≠ -1 → noun' = noun) {d d' : Nat} (hd : 2 ≤ d) (hd' : 2 ≤ d') : c_w_number d σ (obT (σ fS_thing s 0) (-1) noun) (σ fS_which s 0) = some (numV σ (obT (σ fS_thing s 0) (-1) noun) (σ fS_which s 0), σ) ∧ ∃ σ' τ', u_phrase_282 d σ s (obT (σ fS_thing s 0) (-1) noun) x (numV σ (obT (σ fS_thing s 0) (-1) noun) (σ fS_which s 0)) = some (0, σ') ∧ c_m_adds d' τ q noun' x = some (0, τ') ∧ fr wpC σ σ' ∧ fr wpM τ τ' ∧ AP σ' τ' := by
  obtain ⟨d', rfl⟩ : ∃ e, d' = e + 1 := ⟨d' - 1, by omega⟩
  have AA := A
  obtain ⟨_, ⟨g, X⟩, _⟩ := A
  have W := X.1
  have o24 := W.2.1.2.1
  have p12 := W.2.2.2.2.2.1.2.1
  have ob := (ob_r X t4 (it := -1) (noun := noun) (fun z => absurd rfl z) hn).1
  obtain ⟨o, eo⟩ : ∃ o, o = obT (σ fS_thing s 0) (-1) noun := ⟨_, rfl⟩
  obtain ⟨p, ep⟩ : ∃ p, p = σ fS_which s 0 := ⟨_, rfl⟩
  rw [← eo] at ob ⊢
  rw [← ep] at pr ty hp ⊢
  have wo := W.2.1.2.2.2 o ob.1 ob.2
  have mth : c_m_thingIs d' τ (τ fM_qThing 0 q) (-1) noun' = some (o, τ) := by rw [t3, m_obj t4 _ _ (by omega), ob_eq t4 he, eo]
  obtain ⟨v, l, n1, n2, _⟩ := nm_J X ob pr (d := d') (by omega)
  have ev := n2 (by omega)
  obtain ⟨υ, eu⟩ : ∃ x, x = ga_up τ fM_numberLong 0 0 l := ⟨_, rfl⟩
  have f1 : fr [fM_numberLong] τ υ := by rw [eu]; exact fr_u (by decide)
  rw [← eu] at n1
  have AU := AP_nl AA f1
  have kn := s_w_number (σ := σ) W.1.1 (d := d) hd (o := o) (p := p) (by omega) (by omega) W.2.2.2.2.1.2.1 (by omega) wo.2.1
  have rr := hasRow_r (σ := σ) W.1.1 (o := o) (p := p) (by omega) (by omega) wo.2.1
  have bd : -999999 ≤ numV σ o p ∧ numV σ o p ≤ 999999 := by
    unfold numV
    by_cases z : hasRow σ o p = -1
    · rw [if_pos z, if_pos ty]; omega
    · rw [if_neg z]
      have := (row_of X (r := hasRow σ o p) (p := p) (by omega) (by omega) (rr.2.2 z)).2.2.2.1 ty
      omega
  obtain ⟨y, ey⟩ : ∃ y : Int, y = (if 999999 < numV σ o p + x then 999999 else if numV σ o p + x < -999999 then -999999 else numV σ o p + x) := ⟨_, rfl⟩
  have yb : -1000000 < y ∧ y < 1000000 := by
    rw [ey]
    split
    · decide
    · split <;> omega
  have S := set_AP AU (o := o) (p := p) (v := y) (n := σ fW_lengths o p) (m := υ fM_objectLong 0 (12 * o + p)) ob pr ⟨fun _ => yb, fun z => by omega, fun z => by omega⟩ (fun z => by omega) (σ1 := ga_up (ga_up σ fW_has o p 1) fW_numbers o p y) (τ1 := ga_up (ga_up υ fM_objectTold 0 (12 * o + p) 1) fM_objectSays 0 (12 * o + p) y) (up_id (by rw [up_F (by decide), up_F (by decide)])).symm (up_id (by rw [up_F (by decide), up_F (by decide)])).symm
  refine ⟨kn, _, _, ?_, ?_, S.1, fr_trans (fr_sub f1 (by decide)) S.2.1, S.2.2⟩
  · rw [e_u_phrase_282, ck_ok _ (by omega), nn_ok _ hs, nn_ok _ ob.1, ← ep, ck_ok _ (by omega), ck_ok _ (by omega), nn_ok _ hs, w32_ok (by omega)]
    have fin : ∀ z, u_phrase_339 d (ga_up σ fW_has o p 1) z p o = some (0, ga_up (ga_up σ fW_has o p 1) fW_numbers o p z) := by
      intro z
      rw [e_u_phrase_339, nn_ok _ ob.1, ck_ok _ (by omega)]
    rw [ey]
    by_cases c1 : 999999 < numV σ o p + x
    · rw [if_pos c1, if_pos c1, fin]
    · rw [if_neg c1, if_neg c1]
      by_cases c2 : numV σ o p + x < -999999
      · rw [if_pos c2, if_pos c2, fin]
      · rw [if_neg c2, if_neg c2, fin]
  · rw [e_m_adds, ck_ok _ hq, mth, Option.bind_some, ck_ok _ hq]
    show ((c_m_numberOf d' τ o (τ fM_qProperty 0 q)).bind fun q2 => ga_ck (w32 (w32 (12 * o) + τ fM_qProperty 0 q)) 288 ((p_min d' (ga_up q2.2 fM_objectTold 0 (w32 (w32 (12 * o) + τ fM_qProperty 0 q)) 1) 999999 (w32 (q2.1 + x))).bind fun q3 => (p_max d' q3.2 (-999999) q3.1).bind fun q4 => ga_ck (w32 (w32 (12 * o) + τ fM_qProperty 0 q)) 288 (some ((0 : Int), ga_up q4.2 fM_objectSays 0 (w32 (w32 (12 * o) + τ fM_qProperty 0 q)) q4.1)))) = _
    rw [hp, n1, Option.bind_some, w32_ok (x := 12 * o) (by omega), w32_ok (x := 12 * o + p) (by omega), ck_ok _ (by omega)]
    show ((p_min d' (ga_up υ fM_objectTold 0 (12 * o + p) 1) 999999 (w32 (v + x))).bind fun q3 => (p_max d' q3.2 (-999999) q3.1).bind fun q4 => ga_ck (12 * o + p) 288 (some ((0 : Int), ga_up q4.2 fM_objectSays 0 (12 * o + p) q4.1))) = _
    rw [ev, w32_ok (by omega), s_p_min (by omega), Option.bind_some]
    show ((p_max d' (ga_up υ fM_objectTold 0 (12 * o + p) 1) (-999999) (if 999999 < numV σ o p + x then 999999 else numV σ o p + x)).bind fun q4 => ga_ck (12 * o + p) 288 (some ((0 : Int), ga_up q4.2 fM_objectSays 0 (12 * o + p) q4.1))) = _
    rw [s_p_max (by omega), Option.bind_some, ck_ok _ (by omega)]
    have e2 : (if -999999 < (if 999999 < numV σ o p + x then 999999 else numV σ o p + x) then (if 999999 < numV σ o p + x then 999999 else numV σ o p + x) else -999999) = y := by
      rw [ey]
      by_cases c1 : 999999 < numV σ o p + x
      · rw [if_pos c1, if_pos c1, if_pos (by decide)]
      · rw [if_neg c1, if_neg c1]
        by_cases c2 : numV σ o p + x < -999999
        · rw [if_pos c2, if_neg (by omega)]
        · rw [if_neg c2]
          by_cases c3 : -999999 < numV σ o p + x
          · rw [if_pos c3]
          · rw [if_neg c3]; omega
    show some ((0 : Int), ga_up (ga_up υ fM_objectTold 0 (12 * o + p) 1) fM_objectSays 0 (12 * o + p) (if -999999 < (if 999999 < numV σ o p + x then 999999 else numV σ o p + x) then (if 999999 < numV σ o p + x then 999999 else numV σ o p + x) else -999999)) = _
    rw [e2]
end

/-! numbers, values and texts of objects, on both sides -/
/-- the component's store with the model's numbers -/
def fkN (σ τ : ga_S) : ga_S := fun F n i => if F = fW_numbers then (if n < 24 then τ fM_objectSays 0 (12 * n + i) else τ fM_kindSays 0 (12 * (n - 24) + i)) else σ F n i
theorem fkN_o (σ τ : ga_S) {F : Nat} (h : F ≠ fW_numbers) : fkN σ τ F = σ F := by
  funext n i
  unfold fkN
  rw [if_neg h]
def sayR9 (τ : ga_S) (r p : Int) : Int := if r < 24 then τ fM_objectSays 0 (12 * r + p) else τ fM_kindSays 0 (12 * (r - 24) + p)
theorem fkN_n (σ τ : ga_S) (r p : Int) : fkN σ τ fW_numbers r p = sayR9 τ r p := by
  unfold fkN sayR9
  rw [if_pos rfl]
section
variable {σ τ : ga_S} {g : Int}
/-- a row in which something is told -/
theorem row_of (X : SX σ τ g) {r p : Int} (hr : 0 ≤ r ∧ r < 40) (hp : 0 ≤ p ∧ p < 12) (hh : ¬ σ fW_has r p = 0) : p < σ fW_properties 0 0 ∧ (σ fW_propertyTypes 0 p ≠ 1 → sayR9 τ r p = σ fW_numbers r p) ∧ (σ fW_propertyTypes 0 p = 1 → sTx σ (σ fW_numbers r p) (sayR9 τ r p) (σ fW_lengths r p)) ∧ vlO σ p (σ fW_numbers r p) (σ fW_lengths r p) := by
  obtain ⟨h1, h2, h3⟩ := X.2.1.2.1
  have o24 := X.1.2.1.2.1
  have k16 := X.1.1.1.1
  unfold sayR9
  by_cases c : r < 24
  · rw [if_pos c]
    by_cases c2 : r < σ fW_objects 0 0
    · have w := h1 r hr.1 c2 p hp.1 hp.2
      obtain ⟨w1, w2, w3, w4⟩ := w.2.2 hh
      exact ⟨w1, w2, fun z => (w3 z).2, w4⟩
    · exact absurd (h3 r p (Or.inl ⟨by omega, c⟩) hp.1 hp.2) hh
  · rw [if_neg c]
    by_cases c2 : r < 24 + σ fW_kinds 0 0
    · have w := h2 (r - 24) (by omega) (by omega) p hp.1 hp.2
      rw [show 24 + (r - 24) = r by omega] at w
      obtain ⟨w1, w2, w3, w4⟩ := w.2.2 hh
      exact ⟨w1, w2, fun z => (w3 z).2, w4⟩
    · exact absurd (h3 r p (Or.inr ⟨by omega, hr.2⟩) hp.1 hp.2) hh
/-- the number, value or text that a property has -/
theorem nm_J (X : SX σ τ g) {o p : Int} (ho : 0 ≤ o ∧ o < σ fW_objects 0 0) (hp : 0 ≤ p ∧ p < σ fW_properties 0 0) {d : Nat} (hd : 1 ≤ d) : ∃ v l, c_m_numberOf d τ o p = some (v, ga_up τ fM_numberLong 0 0 l) ∧ (σ fW_propertyTypes 0 p ≠ 1 → v = numV σ o p) ∧ (σ fW_propertyTypes 0 p = 1 → l = lenV σ o p ∧ (hasRow σ o p = -1 → l = 0 ∧ v = 0) ∧ (hasRow σ o p ≠ -1 → vlO σ p (σ fW_numbers (hasRow σ o p) p) l ∧ sTx σ (σ fW_numbers (hasRow σ o p) p) v l)) ∧ (-1 ≤ hasRow σ o p ∧ hasRow σ o p < 40) := by
  have W := X.1
  have fo := W.1.1
  have Wo := W.2.1
  have Wp := W.2.2.2.2.2.1
  have Wv := W.2.2.2.2.1
  have o24 := Wo.2.1
  have p12 := Wp.2.1
  have wo := Wo.2.2.2 o ho.1 ho.2
  obtain ⟨s, es⟩ : ∃ s, s = fkN σ τ := ⟨_, rfl⟩
  have e : ∀ F, F ≠ fW_numbers → s F = σ F := fun F h => by rw [es]; exact fkN_o σ τ h
  have hN : ∀ r q, s fW_numbers r q = sayR9 τ r q := fun r q => by rw [es]; exact fkN_n σ τ r q
  have eR : hasRow s o p = hasRow σ o p := by
    unfold hasRow
    rw [e fW_has (by decide), e fW_parents (by decide), e fW_kindOf (by decide)]
  have eL : lenV s o p = lenV σ o p := by
    unfold lenV
    rw [eR, e fW_lengths (by decide)]
  have hH : rHas s τ o p := by
    have w := X.2.1.2.1.1 o ho.1 ho.2 p hp.1 (by omega)
    refine ⟨by rw [e fW_has (by decide)]; exact w.2.1, fun z => ⟨?_, fun y => ?_⟩⟩
    · rw [hN]; unfold sayR9; rw [if_pos (by omega)]
    · rw [e fW_has (by decide)] at z
      rw [e fW_propertyTypes (by decide)] at y
      rw [e fW_lengths (by decide)]
      exact ((w.2.2 z).2.2.1 y).1
  have hK : ∀ k, 0 ≤ k → k < σ fW_kinds 0 0 → rHasK s τ k p := by
    intro k k0 k1
    have w := X.2.1.2.1.2.1 k k0 k1 p hp.1 (by omega)
    refine ⟨by rw [e fW_has (by decide)]; exact w.2.1, fun z => ⟨?_, fun y => ?_⟩⟩
    · rw [hN]; unfold sayR9; rw [if_neg (by omega), show 24 + k - 24 = k by omega]
    · rw [e fW_has (by decide)] at z
      rw [e fW_propertyTypes (by decide)] at y
      rw [e fW_lengths (by decide)]
      exact ((w.2.2 z).2.2.1 y).1
  obtain ⟨l, x1, x2⟩ := s_m_numberOf (σ := s) (τ := τ) (n := σ fW_kinds 0 0) (by rw [e fW_parents (by decide)]; exact fo) (by rw [e fW_parents (by decide)]; exact W.1.2.2.2.1) hd (o := o) (p := p) (by omega) (by omega) (by rw [e fW_values (by decide)]; exact Wv.2.1) (by rw [e fW_values (by decide)]; exact Wv.2.2.1) (by rw [e fW_values (by decide), e fW_valueTypes (by decide)]; exact fun v v0 v1 => (Wv.2.2.2 v v0 v1).2.2) (by rw [e fW_propertyTypes (by decide)]; exact (Wp.2.2.2.1 p hp.1 hp.2).2.2) hK hH (by rw [e fW_kindOf (by decide)]; exact wo.2.2) (by rw [e fW_kindOf (by decide)]; omega) (by rw [e fW_kindOf (by decide)]; exact wo.2.1)
  have rr := hasRow_r (σ := σ) fo (o := o) (p := p) (by omega) (by omega) wo.2.1
  have hv : hasRow σ o p ≠ -1 → numM s o p = sayR9 τ (hasRow σ o p) p := by
    intro z
    unfold numM
    rw [eR, if_neg z, hN]
  refine ⟨numM s o p, l, x1, fun ty => ?_, fun ty => ?_, rr.1, rr.2.1⟩
  · by_cases z : hasRow σ o p = -1
    · have tp := (Wp.2.2.2.1 p hp.1 hp.2).1
      rw [← numM_V tp ty]
      unfold numM firstV
      rw [eR, if_pos z, if_pos z, e fW_propertyTypes (by decide), e fW_values (by decide), e fW_valueTypes (by decide)]
    · rw [hv z, (row_of X (by omega) (by omega) (rr.2.2 z)).2.1 ty]
      unfold numV
      rw [if_neg z]
  · have el := x2 (by rw [e fW_propertyTypes (by decide)]; exact ty)
    rw [eL] at el
    refine ⟨el, fun z => ⟨by rw [el]; unfold lenV; rw [if_pos z], by unfold numM; rw [eR, if_pos z, e fW_propertyTypes (by decide), ty, if_neg (by decide)]⟩, fun z => ?_⟩
    have ro := row_of X (r := hasRow σ o p) (p := p) (by omega) (by omega) (rr.2.2 z)
    have e2 : l = σ fW_lengths (hasRow σ o p) p := by rw [el]; unfold lenV; rw [if_neg z]
    rw [hv z, e2]
    exact ⟨ro.2.2.2, ro.2.2.1 ty⟩
theorem k_isOwned (X : SX σ τ g) (o p : Int) {d : Nat} (hd : 2 ≤ d) : c_x_isOwned d σ o p = some (b2i (decide ((0 ≤ o ∧ o < σ fW_objects 0 0) ∧ 0 ≤ p ∧ p < σ fW_properties 0 0) && own σ (σ fW_kindOf 0 o) p), σ) := by
  obtain ⟨d, rfl⟩ : ∃ e, d = e + 1 := ⟨d - 1, by omega⟩
  have Wo := X.1.2.1
  have o24 := Wo.2.1
  have Wp := X.1.2.2.2.2.2.1
  have p12 := Wp.2.1
  rw [e_x_isOwned, k_isObject o (by omega), Option.bind_some]
  by_cases c : 0 ≤ o ∧ o < σ fW_objects 0 0
  · have wo := Wo.2.2.2 o c.1 c.2
    rw [decide_eq_true c, if_neg b2i_n]
    by_cases c2 : p < 0
    · rw [if_pos c2, decide_eq_false (by omega), Bool.false_and]; rfl
    · rw [if_neg c2]
      by_cases c3 : p < σ fW_properties 0 0
      · have o1 := s_w_owns (σ := σ) X.1.1.1 (d := d) (by omega) (k := σ fW_kindOf 0 o) (p := p) (by omega) (by omega) wo.2.1
        show (if p < σ fW_properties 0 0 then ga_ck o 24 ((c_w_owns d σ (σ fW_kindOf 0 o) p).bind fun q2 => if q2.1 = 0 then some ((0 : Int), q2.2) else some (1, q2.2)) else some (0, σ)) = _
        rw [if_pos c3, ck_ok _ (by omega), o1, Option.bind_some, decide_eq_true (by omega), Bool.true_and]
        cases q : own σ (σ fW_kindOf 0 o) p with
        | true => rw [if_neg b2i_n]; rfl
        | false => rw [if_pos b2i_f]; rfl
      · show (if p < σ fW_properties 0 0 then _ else some ((0 : Int), σ)) = _
        rw [if_neg c3, decide_eq_false (by omega), Bool.false_and]; rfl
  · rw [decide_eq_false c, if_pos b2i_f, decide_eq_false (fun z => c z.1), Bool.false_and]; rfl
theorem m_isProperty (X : SX σ τ g) (o p : Int) {d : Nat} (hd : 2 ≤ d) : c_m_isProperty d τ o p = some (b2i (decide ((0 ≤ o ∧ o < σ fW_objects 0 0) ∧ 0 ≤ p ∧ p < σ fW_properties 0 0) && own σ (σ fW_kindOf 0 o) p), τ) := by
  obtain ⟨d, rfl⟩ : ∃ e, d = e + 1 := ⟨d - 1, by omega⟩
  have W := X.1
  have Wo := W.2.1
  have o24 := Wo.2.1
  have Wp := W.2.2.2.2.2.1
  have p1 := Wp.1
  have p12 := Wp.2.1
  rw [e_m_isProperty, m_inO X o (by omega), Option.bind_some]
  by_cases c : 0 ≤ o ∧ o < σ fW_objects 0 0
  · have wo := Wo.2.2.2 o c.1 c.2
    rw [decide_eq_true c, if_neg b2i_n]
    show ((c_m_in d τ p 0 (w32 (τ fM_properties 0 0 - 1))).bind fun q2 => if q2.1 = 0 then some ((0 : Int), q2.2) else ga_ck o 24 ((c_m_has d q2.2 (q2.2 fM_kindOf 0 o) p).bind fun q3 => if q3.1 = 0 then some (0, q3.2) else some (1, q3.2))) = _
    rw [Wp.2.2.1, w32_ok (by omega), s_m_in (by omega), Option.bind_some]
    by_cases c3 : 0 ≤ p ∧ p ≤ σ fW_properties 0 0 - 1
    · have o2 := s_m_has (τ := τ) W.1.1 W.1.2.2.2.1 (d := d) (by omega) (p := p) (by omega) (b := fun k => bitI (σ fW_propertyKinds 0 p) k) (fun k k0 k1 => Wp.2.2.2.2 k p k0 k1 c3.1 (by omega)) (k := σ fW_kindOf 0 o) (by omega) wo.2.1
      have o2' : c_m_has d τ (τ fM_kindOf 0 o) p = some (b2i (own σ (σ fW_kindOf 0 o) p), τ) := by rw [wo.2.2]; exact o2
      rw [decide_eq_true c3, if_neg b2i_n, ck_ok _ (by omega)]
      show ((c_m_has d τ (τ fM_kindOf 0 o) p).bind fun q3 => if q3.1 = 0 then some ((0 : Int), q3.2) else some (1, q3.2)) = _
      rw [o2', Option.bind_some, decide_eq_true (by omega), Bool.true_and]
      cases q : own σ (σ fW_kindOf 0 o) p with
      | true => rw [if_neg b2i_n]; rfl
      | false => rw [if_pos b2i_f]; rfl
    · rw [decide_eq_false c3, if_pos b2i_f, decide_eq_false (by omega), Bool.false_and]; rfl
  · rw [decide_eq_false c, if_pos b2i_f, decide_eq_false (fun z => c z.1), Bool.false_and]; rfl
/-- the invariant does not look at how long a text was -/
theorem AP_nl (A : AP σ τ) {τ1 : ga_S} (f : fr [fM_numberLong] τ τ1) : AP σ τ1 := by
  obtain ⟨⟨Q, al, dr, ft⟩, ⟨g, X⟩, O⟩ := A
  exact ⟨⟨AQ0_f Q (fr_refl [] σ) (by decide) f (by decide), al, by rw [f _ (by decide)]; exact dr, by rw [f _ (by decide)]; exact ft⟩, ⟨g, SX_f X (fr_refl [] σ) (by decide) f (by decide)⟩, O⟩
theorem q_property (A : AP σ τ) (o p : Int) {d : Nat} (hd : 4 ≤ d) : ∃ v τ', c_x_property d σ o p = some (v, σ) ∧ c_m_property2 d τ o p = some (v, τ') ∧ fr [fM_numberLong] τ τ' ∧ AP σ τ' := by
  obtain ⟨d, rfl⟩ : ∃ e, d = e + 1 := ⟨d - 1, by omega⟩
  have AA := A
  obtain ⟨_, ⟨g, X⟩, _⟩ := A
  have W := X.1
  have Wo := W.2.1
  have o24 := Wo.2.1
  have Wp := W.2.2.2.2.2.1
  have p12 := Wp.2.1
  rw [e_x_property, e_m_property2, k_isOwned X o p (by omega), m_isProperty X o p (by omega), Option.bind_some, Option.bind_some]
  cases q : (decide ((0 ≤ o ∧ o < σ fW_objects 0 0) ∧ 0 ≤ p ∧ p < σ fW_properties 0 0) && own σ (σ fW_kindOf 0 o) p) with
  | false =>
    rw [if_pos b2i_f, if_pos b2i_f]
    exact ⟨-1, τ, rfl, rfl, fr_refl _ _, AA⟩
  | true =>
    have q1 := of_decide_eq_true ((Bool.and_eq_true _ _).mp q).1
    have wo := Wo.2.2.2 o q1.1.1 q1.1.2
    obtain ⟨v, l, n1, n2, n3, n4⟩ := nm_J X q1.1 q1.2 (d := d) (by omega)
    have f1 : fr [fM_numberLong] τ (ga_up τ fM_numberLong 0 0 l) := fr_u (by decide)
    have pt := (Wp.2.2.2.1 p q1.2.1 q1.2.2).2.2
    have kh := s_w_hasAt (σ := σ) W.1.1 (d := d) (by omega) (o := o) (p := p) (by omega) (by omega) (by omega) wo.2.1
    rw [if_neg b2i_n, if_neg b2i_n, ck_ok _ (by omega)]
    show ∃ v τ', (if σ fW_propertyTypes 0 p = 1 then (c_w_hasAt d σ o p).bind fun q2 => if q2.1 = -1 then some ((0 : Int), q2.2) else ga_ck q2.1 40 (ga_nn q2.1 (ga_ck p 12 (some (q2.2 fW_lengths q2.1 p, q2.2)))) else (c_w_number d σ o p).bind fun q3 => some (q3.1, q3.2)) = some (v, σ) ∧ ((c_m_numberOf d τ o p).bind fun q2 => ga_ck p 12 (if q2.2 fM_propertyType 0 p = 1 then some (q2.2 fM_numberLong 0 0, q2.2) else some (q2.1, q2.2))) = some (v, τ') ∧ fr [fM_numberLong] τ τ' ∧ AP σ τ'
    rw [n1, Option.bind_some, ck_ok _ (by omega)]
    show ∃ v' τ', _ = some (v', σ) ∧ (if (ga_up τ fM_numberLong 0 0 l) fM_propertyType 0 p = 1 then some ((ga_up τ fM_numberLong 0 0 l) fM_numberLong 0 0, ga_up τ fM_numberLong 0 0 l) else some (v, ga_up τ fM_numberLong 0 0 l)) = some (v', τ') ∧ fr [fM_numberLong] τ τ' ∧ AP σ τ'
    rw [f1 fM_propertyType (by decide), pt, up_eq]
    by_cases ty : σ fW_propertyTypes 0 p = 1
    · rw [if_pos ty, if_pos ty, kh, Option.bind_some]
      obtain ⟨m1, m2, m3⟩ := n3 ty
      refine ⟨l, _, ?_, rfl, f1, AP_nl AA f1⟩
      show (if hasRow σ o p = -1 then some ((0 : Int), σ) else ga_ck (hasRow σ o p) 40 (ga_nn (hasRow σ o p) (ga_ck p 12 (some (σ fW_lengths (hasRow σ o p) p, σ))))) = some (l, σ)
      by_cases z : hasRow σ o p = -1
      · rw [if_pos z, (m2 z).1]
      · rw [if_neg z, ck_ok _ (by omega), nn_ok _ (by omega), ck_ok _ (by omega), m1]
        unfold lenV
        rw [if_neg z]
    · rw [if_neg ty, if_neg ty, s_w_number (σ := σ) W.1.1 (by omega) (by omega) (by omega) W.2.2.2.2.1.2.1 (by omega) wo.2.1, Option.bind_some]
      exact ⟨v, _, by rw [n2 ty], rfl, f1, AP_nl AA f1⟩
theorem and255 : ∀ b : Int, 0 ≤ b → b < 128 → ga_iand b 255 = b := by
  intro b h0 h1
  have key : ∀ n : Nat, n < 128 → ga_iand (n : Int) 255 = (n : Int) := by decide +kernel
  have := key b.toNat (by omega)
  rw [show ((b.toNat : Nat) : Int) = b by omega] at this
  exact this
theorem q_letter (A : AP σ τ) (o p k : Int) {d : Nat} (hd : 4 ≤ d) : ∃ v τ', c_x_letter d σ o p k = some (v, σ) ∧ c_m_letter d τ o p k = some (v, τ') ∧ fr [fM_numberLong] τ τ' ∧ AP σ τ' := by
  obtain ⟨d, rfl⟩ : ∃ e, d = e + 1 := ⟨d - 1, by omega⟩
  have AA := A
  obtain ⟨⟨Q, _⟩, ⟨g, X⟩, _⟩ := A
  obtain ⟨_, ⟨b1, b2, b3, b4, b5, b6⟩, _⟩ := Q
  have W := X.1
  have Wo := W.2.1
  have o24 := Wo.2.1
  have Wp := W.2.2.2.2.2.1
  have p12 := Wp.2.1
  rw [e_x_letter, e_m_letter, k_isOwned X o p (by omega), m_isProperty X o p (by omega), Option.bind_some, Option.bind_some]
  cases q : (decide ((0 ≤ o ∧ o < σ fW_objects 0 0) ∧ 0 ≤ p ∧ p < σ fW_properties 0 0) && own σ (σ fW_kindOf 0 o) p) with
  | false =>
    rw [if_pos b2i_f, if_pos b2i_f]
    exact ⟨-1, τ, rfl, rfl, fr_refl _ _, AA⟩
  | true =>
    have q1 := of_decide_eq_true ((Bool.and_eq_true _ _).mp q).1
    have wo := Wo.2.2.2 o q1.1.1 q1.1.2
    obtain ⟨v, l, n1, n2, n3, n4⟩ := nm_J X q1.1 q1.2 (d := d) (by omega)
    obtain ⟨υ, eu⟩ : ∃ x, x = ga_up τ fM_numberLong 0 0 l := ⟨_, rfl⟩
    have f1 : fr [fM_numberLong] τ υ := by rw [eu]; exact fr_u (by decide)
    have pt := (Wp.2.2.2.1 p q1.2.1 q1.2.2).2.2
    have kh := s_w_hasAt (σ := σ) W.1.1 (d := d) (by omega) (o := o) (p := p) (by omega) (by omega) (by omega) wo.2.1
    rw [← eu] at n1
    rw [if_neg b2i_n, if_neg b2i_n, ck_ok _ (by omega), ck_ok _ (by omega)]
    by_cases ty : σ fW_propertyTypes 0 p = 1
    · obtain ⟨m1, m2, m3⟩ := n3 ty
      have ul : υ fM_numberLong 0 0 = l := by rw [eu, up_eq]
      show ∃ v τ', (if σ fW_propertyTypes 0 p = 1 then (c_w_hasAt d σ o p).bind fun q2 => if q2.1 = -1 then x_letter_61 d q2.2 else if k < 0 then x_letter_61 d q2.2 else ga_ck q2.1 40 (ga_nn q2.1 (ga_ck p 12 (if k < q2.2 fW_lengths q2.1 p then ga_nn (0 + 1) (ga_ck q2.1 40 (ga_nn q2.1 (ga_ck p 12 (ga_nn (0 + 1) (ga_ck (w32 (q2.2 fW_numbers q2.1 p + k)) 5000 (some (q2.2 fT_bytes (0 + 1) (w32 (q2.2 fW_numbers q2.1 p + k)), q2.2))))))) else x_letter_61 d q2.2))) else some ((-1 : Int), σ)) = some (v, σ) ∧ (if τ fM_propertyType 0 p = 1 then (c_m_numberOf d τ o p).bind fun q2 => (c_m_in d q2.2 k 0 (w32 (q2.2 fM_numberLong 0 0 - 1))).bind fun q3 => if q3.1 = 0 then some ((-1 : Int), q3.2) else ga_ck (w32 (q2.1 + k)) 5000 (some (ga_iand (q3.2 fM_story 0 (w32 (q2.1 + k))) 255, q3.2)) else some (-1, τ)) = some (v, τ') ∧ fr [fM_numberLong] τ τ' ∧ AP σ τ'
      rw [if_pos ty, pt, if_pos ty, kh, n1, Option.bind_some, Option.bind_some]
      by_cases z : hasRow σ o p = -1
      · have l0 := (m2 z).1
        refine ⟨-1, υ, ?_, ?_, f1, AP_nl AA f1⟩
        · show (if hasRow σ o p = -1 then x_letter_61 d σ else _) = _
          rw [if_pos z, e_x_letter_61]
        · show ((c_m_in d υ k 0 (w32 (υ fM_numberLong 0 0 - 1))).bind fun q3 => if q3.1 = 0 then some ((-1 : Int), q3.2) else ga_ck (w32 (v + k)) 5000 (some (ga_iand (q3.2 fM_story 0 (w32 (v + k))) 255, q3.2))) = _
          rw [ul, l0, w32_ok (by decide), s_m_in (by omega), Option.bind_some, decide_eq_false (by omega), if_pos b2i_f]
      · obtain ⟨v1, v2⟩ := m3 z
        have vl := v1.2.1 ty
        have le : σ fW_lengths (hasRow σ o p) p = l := by rw [m1]; unfold lenV; rw [if_neg z]
        have rC : ∀ x, (if hasRow σ o p = -1 then x_letter_61 d σ else if k < 0 then x_letter_61 d σ else ga_ck (hasRow σ o p) 40 (ga_nn (hasRow σ o p) (ga_ck p 12 (if k < σ fW_lengths (hasRow σ o p) p then ga_nn (0 + 1) (ga_ck (hasRow σ o p) 40 (ga_nn (hasRow σ o p) (ga_ck p 12 (ga_nn (0 + 1) (ga_ck (w32 (σ fW_numbers (hasRow σ o p) p + k)) 5000 (some (σ fT_bytes (0 + 1) (w32 (σ fW_numbers (hasRow σ o p) p + k)), σ))))))) else x_letter_61 d σ)))) = some (x, σ) ↔ x = (if 0 ≤ k ∧ k < l then σ fT_bytes 0 (σ fW_numbers (hasRow σ o p) p + k) else -1) := by
          intro x
          rw [if_neg z, e_x_letter_61, le]
          by_cases ck : 0 ≤ k ∧ k < l
          · rw [if_neg (by omega), ck_ok _ (by omega), nn_ok _ (by omega), ck_ok _ (by omega), if_pos ck.2, nn_ok _ (by decide), ck_ok _ (by omega), nn_ok _ (by omega), ck_ok _ (by omega), nn_ok _ (by decide), w32_ok (by omega), ck_ok _ (by omega), if_pos ck, show (0 + 1 : Int) = 1 from rfl, b2]
            exact ⟨fun h => by injection h with h; injection h with h _; exact h.symm, fun h => by rw [h]⟩
          · rw [if_neg ck]
            by_cases k0 : k < 0
            · rw [if_pos k0]
              exact ⟨fun h => by injection h with h; injection h with h _; exact h.symm, fun h => by rw [h]⟩
            · rw [if_neg k0, ck_ok _ (by omega), nn_ok _ (by omega), ck_ok _ (by omega), if_neg (by omega)]
              exact ⟨fun h => by injection h with h; injection h with h _; exact h.symm, fun h => by rw [h]⟩
        refine ⟨_, υ, (rC _).mpr rfl, ?_, f1, AP_nl AA f1⟩
        show ((c_m_in d υ k 0 (w32 (υ fM_numberLong 0 0 - 1))).bind fun q3 => if q3.1 = 0 then some ((-1 : Int), q3.2) else ga_ck (w32 (v + k)) 5000 (some (ga_iand (q3.2 fM_story 0 (w32 (v + k))) 255, q3.2))) = _
        rw [ul, w32_ok (by omega), s_m_in (by omega), Option.bind_some]
        by_cases ck : 0 ≤ k ∧ k < l
        · have t := v2.2.2 k ck.1 ck.2
          have nn := vl.2.2.2 k ck.1 ck.2
          have br := b3 (σ fW_numbers (hasRow σ o p) p + k)
          have vr := v2.1
          have vs := v2.2.1
          rw [decide_eq_true (by omega), if_neg b2i_n, if_pos ck, w32_ok (by omega), ck_ok _ (by omega)]
          show some (ga_iand (υ fM_story 0 (v + k)) 255, υ) = _
          rw [f1 _ (by decide), b1, t, and255 _ nn br.2]
        · rw [decide_eq_false (by omega), if_pos b2i_f, if_neg ck]
    · refine ⟨-1, τ, ?_, ?_, fr_refl _ _, AA⟩
      · show (if σ fW_propertyTypes 0 p = 1 then _ else some ((-1 : Int), σ)) = _
        rw [if_neg ty]
      · show (if τ fM_propertyType 0 p = 1 then _ else some ((-1 : Int), τ)) = _
        rw [pt, if_neg ty]
end

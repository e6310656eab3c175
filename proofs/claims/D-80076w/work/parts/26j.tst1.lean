/-! properties and values that tests tell -/
def nuT (σ0 : ga_S) (k : Int) : Int := dgV (σ0 fT_bytes 0) (σ0 fT_places 0 k) (σ0 fT_lengths 0 k)
theorem dgV_b {B : Int → Int} {p : Int} {i : Int} (h0 : 0 ≤ i) (h6 : i ≤ 6) (h : ∀ q, p ≤ q → q < p + i → isDg (B q) = true) : 0 ≤ dgV B p i ∧ dgV B p i < 1000000 := by
  obtain ⟨m, rfl⟩ : ∃ m : Nat, i = m := ⟨i.toNat, by omega⟩
  have r := dgV_r m h
  have e : (10 : Int) ^ m ≤ 1000000 := by
    have : m = 0 ∨ m = 1 ∨ m = 2 ∨ m = 3 ∨ m = 4 ∨ m = 5 ∨ m = 6 := by omega
    rcases this with h | h | h | h | h | h | h <;> rw [h] <;> decide
  omega
section
variable {σ0 τ0 : ga_S} {f : Int} {N : Nat}
theorem nuT_r (E : E0 σ0 τ0 f N) {k : Int} (hk : 0 ≤ k ∧ k < N) (h1 : σ0 fT_kinds 0 k = 1) : 0 ≤ nuT σ0 k ∧ nuT σ0 k < 1000000 ∧ τ0 fM_word 0 (f + k) = nuT σ0 k := by
  have t := E.2.1.2.2.2.2.1 k hk.1 hk.2 h1
  have p := E.2.1.2.1 k hk.1 (by omega)
  have := dgV_b p.2.1 t.1 t.2.1
  exact ⟨this.1, this.2, t.2.2⟩
theorem k_number {σ : ga_S} (E : E0 σ0 τ0 f N) (K : KC σ0 σ) {k : Int} (hk : 0 ≤ k ∧ k < N) (h1 : σ0 fT_kinds 0 k = 1) {d : Nat} (hd : 1 ≤ d) : c_t_number d σ 0 k = some (nuT σ0 k, σ) := by
  obtain ⟨d, rfl⟩ : ∃ e, d = e + 1 := ⟨d - 1, by omega⟩
  have t := E.2.1.2.2.2.2.1 k hk.1 hk.2 h1
  have p := E.2.1.2.1 k hk.1 (by omega)
  have hN := E.1.2.2.1
  have sz := E.2.1.1.1
  have lp : ∀ i, 0 ≤ i → i ≤ σ0 fT_lengths 0 k → t_number_4 d σ 0 k (dgV (σ0 fT_bytes 0) (σ0 fT_places 0 k) i) i = some (nuT σ0 k, σ) := by
    refine rg_ind (n := σ0 fT_lengths 0 k) (fun i hi h0 h1 => ?_) (fun i hi ih h0 h1 => ?_)
    · have e : i = σ0 fT_lengths 0 k := by omega
      rw [e_t_number_4, nn_ok _ (by omega), nn_ok _ (by omega), ck_ok _ (by omega), K.2.1 fT_lengths (by decide), if_neg (by omega), e]; rfl
    · have dg := t.2.1 (σ0 fT_places 0 k + i) (by omega) (by omega)
      have b1 := dgV_b (B := σ0 fT_bytes 0) (p := σ0 fT_places 0 k) h0 (by omega) (fun q x y => t.2.1 q x (by omega))
      have b2 := dgV_b (B := σ0 fT_bytes 0) (p := σ0 fT_places 0 k) (i := i + 1) (by omega) (by omega) (fun q x y => t.2.1 q x (by omega))
      have ds := dgV_s (B := σ0 fT_bytes 0) (p := σ0 fT_places 0 k) h0
      have dr : 48 ≤ σ0 fT_bytes 0 (σ0 fT_places 0 k + i) ∧ σ0 fT_bytes 0 (σ0 fT_places 0 k + i) ≤ 57 := by
        unfold isDg at dg
        have := of_decide_eq_true dg
        omega
      rw [e_t_number_4, nn_ok _ (by omega), nn_ok _ (by omega), ck_ok _ (by omega), K.2.1 fT_lengths (by decide), if_pos hi, nn_ok _ (by omega), nn_ok _ (by omega), nn_ok _ (by omega), ck_ok _ (by omega), nn_ok _ (by omega), K.2.1 fT_places (by decide), w32_ok (x := σ0 fT_places 0 k + i) (by omega), ck_ok _ (by omega), K.1 fT_bytes (by decide), w32_ok (x := 10 * dgV (σ0 fT_bytes 0) (σ0 fT_places 0 k) i) (by omega), w32_ok (x := 10 * dgV (σ0 fT_bytes 0) (σ0 fT_places 0 k) i + σ0 fT_bytes 0 (σ0 fT_places 0 k + i)) (by omega), w32_ok (by omega), w32_ok (by omega), ← ds]
      exact ih (by omega) (by omega)
  rw [e_t_number]
  exact lp 0 (Int.le_refl _) p.2.1
def prN (σ0 : ga_S) (rf rt : Int) : Int := dN σ0 (nmT σ0 rf rt) 5
/-- whether a property fits -/
def prB (σ0 : ga_S) (ik nk rf rt v : Int) (num : Bool) : Bool := decide (prN σ0 rf rt ≠ -1) && (decide (v = -1) || own σ0 (kdT σ0 ik nk v) (prN σ0 rf rt)) && (!num || decide (σ0 fW_propertyTypes 0 (prN σ0 rf rt) = 0))
theorem own_K {σ : ga_S} (K : KC σ0 σ) : own σ = own σ0 := by
  funext k p
  unfold own
  rw [K.1 fW_parents (by decide), K.1 fW_propertyKinds (by decide)]
theorem k_property {σ : ga_S} (E : E0 σ0 τ0 f N) (K : KC σ0 σ) {c : Int} (hF : FT σ c) {ik nk v s rf rt : Int} (hI : σ fR_itKind 0 0 = ik) (hn : σ fR_nounKind 0 0 = nk) (kI : kO σ0 ik) (kN : kO σ0 nk) (hv : v = -1 ∨ thO σ0 ik nk v) (hB : frB σ0 N rf rt) (e1 : σ fR_propertyFrom 0 0 = rf) (e2 : σ fR_propertyTo 0 0 = rt) (hs : 0 ≤ s) (hD : inD σ0 s) (num : Bool) {d : Nat} (hd : 5 ≤ d) : ∃ σ', c_r_property d σ s v (b2i num) = some (0, σ') ∧ fr (fS_which :: ndL) σ σ' ∧ KC σ0 σ' ∧ sKp s σ σ' ∧ FT σ' (min c (if prB σ0 ik nk rf rt v num = true then 1000000 else cd σ0 rf 2)) ∧ σ' fS_which s 0 = if prB σ0 ik nk rf rt v num = true then prN σ0 rf rt else -1 := by
  obtain ⟨d, rfl⟩ : ∃ e, d = e + 1 := ⟨d - 1, by omega⟩
  have le := FT_le hF
  have wk := e0_k E
  have wp := e0_p E
  have wp2 := wp.2.1
  have tr := frB_t hB
  have pr := e0_dN E (nmT σ0 rf rt) 5
  have m5 : mxN σ0 5 = σ0 fW_properties 0 0 := rfl
  obtain ⟨σ1, a1, a2, _, a4⟩ := k_mean E K hB (d := d) (by omega) 5
  have F1 := FT_f hF a2 (by decide)
  obtain ⟨p, ep⟩ : ∃ x, x = prN σ0 rf rt := ⟨_, rfl⟩
  have ep' : dN σ0 (nmT σ0 rf rt) 5 = p := ep.symm
  rw [ep'] at a1 pr
  -- both ends
  have g65 : ∀ B : Bool, ∃ σ', r_property_65 d σ1 s p (b2i B) = some (0, σ') ∧ fr (fS_which :: ndL) σ σ' ∧ KC σ0 σ' ∧ sKp s σ σ' ∧ FT σ' (min c (if B = true then 1000000 else cd σ0 rf 2)) ∧ σ' fS_which s 0 = if B = true then p else -1 := by
    intro B
    rw [e_r_property_65]
    cases B with
    | true =>
      have f2 : fr [fS_which] σ1 (ga_up σ1 fS_which s 0 p) := fr_u (by decide)
      rw [if_neg b2i_n, nn_ok _ hs, if_pos rfl, if_pos rfl, Int.min_eq_left le]
      exact ⟨_, rfl, fr_trans (fr_sub a2 (by decide)) (fr_sub f2 (by decide)), KC_s a4 f2 (by decide) (sKp_u _ _ _ _ _) hD, sKp_t (sKp_f a2 (by decide)) (sKp_u _ _ _ _ _), FT_f F1 f2 (by decide), up_eq ..⟩
    | false =>
      obtain ⟨σ2, g1, g2, g3⟩ := k_note E.2.1 E.1.2.2.1 a4 F1 (t := rf) (r := 2) (why := 4) tr (by omega) (by decide) (d := d) (by omega)
      have f2 : fr [fS_which] σ2 (ga_up σ2 fS_which s 0 (-1)) := fr_u (by decide)
      rw [if_pos b2i_f, a2 fR_propertyFrom (by decide), e1, g1]
      simp only [Option.bind_some]
      rw [nn_ok _ hs, if_neg (by decide), if_neg (by decide)]
      exact ⟨_, rfl, fr_trans (fr_sub a2 (by decide)) (fr_trans (fr_sub g2 (by decide)) (fr_sub f2 (by decide))), KC_s (KC_f a4 g2 (by decide)) f2 (by decide) (sKp_u _ _ _ _ _) hD, sKp_t (sKp_f a2 (by decide)) (sKp_t (sKp_f g2 (by decide)) (sKp_u _ _ _ _ _)), FT_f g3 f2 (by decide), up_eq ..⟩
  have g64 : r_property_64 d σ1 s p = r_property_65 d σ1 s p (b2i false) := e_r_property_64 ..
  have g60 : r_property_60 d σ1 s p = r_property_65 d σ1 s p (b2i true) := e_r_property_60 ..
  have g43 : p ≠ -1 → r_property_43 d σ1 s (b2i num) p = r_property_65 d σ1 s p (b2i (!num || decide (σ0 fW_propertyTypes 0 p = 0))) := by
    intro np
    rw [e_r_property_43]
    cases num with
    | false => rw [if_pos b2i_f, g60]; rfl
    | true =>
      rw [if_neg b2i_n, ck_ok _ (by omega), a4.1 fW_propertyTypes (by decide)]
      by_cases z : σ0 fW_propertyTypes 0 p = 0
      · rw [if_pos z, g60, decide_eq_true z]; rfl
      · rw [if_neg z, g64, decide_eq_false z]; rfl
  have key : c_r_property (d + 1) σ s v (b2i num) = r_property_65 d σ1 s p (b2i (prB σ0 ik nk rf rt v num)) := by
    unfold prB
    rw [e_r_property, e1, e2, a1, ← ep]
    simp only [Option.bind_some]
    by_cases c1 : p = -1
    · rw [if_pos c1, g64, decide_eq_false (p := p ≠ -1) (fun z => z c1), Bool.false_and, Bool.false_and]
    · rw [if_neg c1, decide_eq_true (p := p ≠ -1) c1, Bool.true_and]
      by_cases c2 : v = -1
      · rw [if_pos c2, g43 c1, decide_eq_true c2, Bool.true_or, Bool.true_and]
      · have tv := hv.resolve_left c2
        have kr := kdT_r E kI kN tv
        have hF1 : FO (σ1 fW_parents 0) (σ0 fW_kinds 0 0) := by rw [a4.1 _ (by decide)]; exact wk.1
        rw [if_neg c2, k_kindOf E a4 (by rw [a2 _ (by decide)]; exact hI) (by rw [a2 _ (by decide)]; exact hn) tv (by omega)]
        simp only [Option.bind_some]
        rw [s_w_owns hF1 (by omega) (by omega) (by omega) kr.2, own_K a4, decide_eq_false c2, Bool.false_or]
        simp only [Option.bind_some]
        cases own σ0 (kdT σ0 ik nk v) p with
        | false => rw [if_pos b2i_f, g64, Bool.false_and]
        | true => rw [if_neg b2i_n, g43 c1, Bool.true_and]
  rw [key, ← ep]
  exact g65 _
/-- what is told is of a type -/
def vlB (σ0 : ga_S) (type at' to : Int) : Bool := if σ0 fT_kinds 0 at' = 1 then decide (type = 0) else if σ0 fT_kinds 0 at' = 2 then decide (type = 1) else decide (dN σ0 (nmT σ0 at' to) 4 ≠ -1) && decide (σ0 fW_valueTypes 0 (dN σ0 (nmT σ0 at' to) 4) = type)
def vlRow (σ0 : ga_S) (at' to s : Int) (σ : ga_S) : Prop := (σ0 fT_kinds 0 at' = 1 ∧ σ fS_what s 0 = 3 ∧ σ fS_value s 0 = nuT σ0 at') ∨ (σ0 fT_kinds 0 at' = 2 ∧ σ fS_what s 0 = 4 ∧ σ fS_value s 0 = σ0 fT_places 0 at' + 1 ∧ σ fS_length s 0 = σ0 fT_lengths 0 at' - 2) ∨ (σ0 fT_kinds 0 at' ≠ 1 ∧ σ0 fT_kinds 0 at' ≠ 2 ∧ σ fS_what s 0 = 1 ∧ σ fS_value s 0 = dN σ0 (nmT σ0 at' to) 4)
def vlL : List Nat := fS_what :: fS_value :: fS_length :: spL
theorem k_value {σ : ga_S} (E : E0 σ0 τ0 f N) (K : KC σ0 σ) {s at' to : Int} (type : Int) (hs : 0 ≤ s) (hD : inD σ0 s) (h0 : 0 ≤ at' ∧ at' < N) (h : (σ0 fT_kinds 0 at' = 1 ∨ σ0 fT_kinds 0 at' = 2) ∨ frB σ0 N at' to) {d : Nat} (hd : 5 ≤ d) : ∃ σ', c_r_value d σ s type at' to = some (b2i (vlB σ0 type at' to), σ') ∧ fr vlL σ σ' ∧ KC σ0 σ' ∧ sKp s σ σ' ∧ vlRow σ0 at' to s σ' := by
  obtain ⟨d, rfl⟩ : ∃ e, d = e + 1 := ⟨d - 1, by omega⟩
  have hN := E.1.2.2.1
  have kk : σ fT_kinds 0 = σ0 fT_kinds 0 := K.2.1 _ (by decide)
  have bi : ∀ (p : Prop) [Decidable p] (σ' : ga_S), (if p then some ((1 : Int), σ') else some (0, σ')) = some (b2i (decide p), σ') := by
    intro p _ σ'
    by_cases z : p
    · rw [if_pos z, decide_eq_true z]; rfl
    · rw [if_neg z, decide_eq_false z]; rfl
  rw [e_r_value, s_r_is (by omega) (by omega), kk]
  simp only [Option.bind_some]
  unfold vlB vlRow
  by_cases c1 : σ0 fT_kinds 0 at' = 1
  · have f1 : fr [fS_what] σ (ga_up σ fS_what s 0 3) := fr_u (by decide)
    have K1 := KC_s K f1 (by decide) (sKp_u _ _ _ _ _) hD
    rw [decide_eq_true c1, if_neg b2i_n, if_pos c1, nn_ok _ hs, k_number E K1 h0 c1 (by omega)]
    simp only [Option.bind_some]
    have f2 : fr [fS_value] (ga_up σ fS_what s 0 3) (ga_up (ga_up σ fS_what s 0 3) fS_value s 0 (nuT σ0 at')) := fr_u (by decide)
    rw [nn_ok _ hs, bi]
    exact ⟨_, rfl, fr_trans (fr_sub f1 (by decide)) (fr_sub f2 (by decide)), KC_s K1 f2 (by decide) (sKp_u _ _ _ _ _) hD, sKp_t (sKp_u _ _ _ _ _) (sKp_u _ _ _ _ _), Or.inl ⟨c1, by rw [up_F (by decide), up_eq], by rw [up_eq]⟩⟩
  · rw [decide_eq_false c1, if_pos b2i_f, if_neg c1, s_r_is (by omega) (by omega), kk]
    simp only [Option.bind_some]
    by_cases c2 : σ0 fT_kinds 0 at' = 2
    · have t := E.2.1.2.1 at' h0.1 (by omega)
      have u := E.2.1.2.2.2.2.2 at' h0.1 h0.2 c2
      have sz := E.2.1.1.1
      rw [decide_eq_true c2, if_neg b2i_n, if_pos c2, nn_ok _ hs, ck_ok _ (by omega), nn_ok _ hs, ck_ok _ (by omega), nn_ok _ hs, K.2.1 fT_places (by decide), K.2.1 fT_lengths (by decide), w32_ok (by omega), w32_ok (by omega), bi]
      have f1 : fr [fS_what, fS_value, fS_length] σ (ga_up (ga_up (ga_up σ fS_what s 0 4) fS_value s 0 (σ0 fT_places 0 at' + 1)) fS_length s 0 (σ0 fT_lengths 0 at' - 2)) := fr_trans (fr_trans (fr_u (by decide)) (fr_u (by decide))) (fr_u (by decide))
      exact ⟨_, rfl, fr_sub f1 (by decide), KC_s K f1 (by decide) (sKp_t (sKp_t (sKp_u _ _ _ _ _) (sKp_u _ _ _ _ _)) (sKp_u _ _ _ _ _)) hD, sKp_t (sKp_t (sKp_u _ _ _ _ _) (sKp_u _ _ _ _ _)) (sKp_u _ _ _ _ _), Or.inr (Or.inl ⟨c2, by rw [up_F (by decide), up_F (by decide), up_eq], by rw [up_F (by decide), up_eq], by rw [up_eq]⟩)⟩
    · have hB := h.resolve_left (fun z => z.elim c1 c2)
      have f1 : fr [fS_what] σ (ga_up σ fS_what s 0 1) := fr_u (by decide)
      have K1 := KC_s K f1 (by decide) (sKp_u _ _ _ _ _) hD
      obtain ⟨σ2, g1, g2, _, g4⟩ := k_mean E K1 hB (d := d) (by omega) 4
      have f3 : fr [fS_value] σ2 (ga_up σ2 fS_value s 0 (dN σ0 (nmT σ0 at' to) 4)) := fr_u (by decide)
      have r4 := e0_dN E (nmT σ0 at' to) 4
      have m4 : mxN σ0 4 = σ0 fW_values 0 0 := rfl
      have wv := (e0_v E).2.1
      rw [decide_eq_false c2, if_pos b2i_f, if_neg c2, nn_ok _ hs, g1]
      simp only [Option.bind_some]
      rw [nn_ok _ hs, nn_ok _ hs, up_eq]
      refine ⟨ga_up σ2 fS_value s 0 (dN σ0 (nmT σ0 at' to) 4), ?_, fr_trans (fr_sub f1 (by decide)) (fr_trans (fr_sub g2 (by decide)) (fr_sub f3 (by decide))), KC_s g4 f3 (by decide) (sKp_u _ _ _ _ _) hD, sKp_t (sKp_u _ _ _ _ _) (sKp_t (sKp_f g2 (by decide)) (sKp_u _ _ _ _ _)), Or.inr (Or.inr ⟨c1, c2, by rw [up_F (by decide), g2 _ (by decide), up_eq], by rw [up_eq]⟩)⟩
      by_cases z : dN σ0 (nmT σ0 at' to) 4 = -1
      · rw [if_pos z, decide_eq_false (p := dN σ0 (nmT σ0 at' to) 4 ≠ -1) (fun y => y z), Bool.false_and]; rfl
      · rw [if_neg z, nn_ok _ hs, ck_ok _ (by omega), decide_eq_true (p := dN σ0 (nmT σ0 at' to) 4 ≠ -1) z, Bool.true_and, g4.1 fW_valueTypes (by decide), bi]
end

/-! a property is told: on both sides -/
/-- the texts at x and y are the same for n letters -/
def tEq (S : Int → Int) (x y i n : Int) : Bool := decide (∀ j, j ∈ rg i n → S (x + j) = S (y + j))
theorem tEq_n {S : Int → Int} {x y i n : Int} (h : n ≤ i) : tEq S x y i n = true := by
  unfold tEq
  rw [rg_n h]
  exact decide_eq_true (fun j hj => by cases hj)
theorem tEq_s {S : Int → Int} {x y i n : Int} (h : i < n) : tEq S x y i n = (decide (S (x + i) = S (y + i)) && tEq S x y (i + 1) n) := by
  unfold tEq
  rw [rg_s h]
  by_cases c : S (x + i) = S (y + i)
  · rw [decide_eq_true c, Bool.true_and]
    apply decide_eq_decide.mpr
    constructor
    · intro q j hj; exact q j (List.mem_cons_of_mem _ hj)
    · intro q j hj
      rcases List.mem_cons.mp hj with z | z
      · rw [z]; exact c
      · exact q j z
  · rw [decide_eq_false c, Bool.false_and]
    exact decide_eq_false (fun q => c (q i (List.mem_cons_self ..)))
theorem tEq_1 {S : Int → Int} {x y n : Int} : tEq S x y 0 n = true ↔ ∀ j, 0 ≤ j → j < n → S (x + j) = S (y + j) := by
  unfold tEq
  rw [decide_eq_true_iff]
  constructor
  · intro h j j0 j1; exact h j ((rg_mem 0).mpr ⟨j0, j1⟩)
  · intro h j hj; have := (rg_mem 0).mp hj; exact h j this.1 this.2
theorem k_set75 {σ : ga_S} {r p v n t : Int} (hr : 0 ≤ r ∧ r < 40) (hp : 0 ≤ p ∧ p < 12) (h1 : 0 ≤ σ fW_numbers r p ∧ σ fW_numbers r p + n ≤ 5000) (h2 : 0 ≤ v ∧ v + n ≤ 5000) (d : Nat) : ∀ i, 0 ≤ i → r_set_75 d σ r p v n t 1 i = r_set_137 d σ t (b2i (tEq (σ fT_bytes 0) (σ fW_numbers r p) v i n)) ∧ r_set_75 d σ r p v n t 0 i = r_set_137 d σ t 0 := by
  refine rg_ind (n := n) ?_ ?_
  · intro i h h0
    constructor
    · rw [e_r_set_75, if_neg (by omega), tEq_n h]; rfl
    · rw [e_r_set_75, if_neg (by omega)]
  · intro i h ih h0
    obtain ⟨i1, i2⟩ := ih (by omega)
    constructor
    · rw [e_r_set_75, if_pos h, if_neg (by decide), ck_ok _ hr, nn_ok _ hr.1, ck_ok _ hp, w32_ok (x := σ fW_numbers r p + i) (by omega), w32_ok (x := v + i) (by omega), ck_ok _ (by omega), ck_ok _ (by omega), tEq_s h]
      by_cases c : σ fT_bytes 0 (σ fW_numbers r p + i) = σ fT_bytes 0 (v + i)
      · rw [if_pos c, e_r_set_129, w32_ok (x := i + 1) (by omega), i1, decide_eq_true c, Bool.true_and]
      · rw [if_neg c, e_r_set_129, w32_ok (x := i + 1) (by omega), i2, decide_eq_false c, Bool.false_and]; rfl
    · rw [e_r_set_75, if_pos h, if_pos rfl]
/-- the same value as is told -/
def sV (σ : ga_S) (r p v n : Int) : Bool := if σ fW_propertyTypes 0 p = 1 then decide (σ fW_lengths r p = n) && tEq (σ fT_bytes 0) (σ fW_numbers r p) v 0 n else decide (σ fW_numbers r p = v)
def stW : List Nat := [fW_has, fW_numbers, fW_lengths]
theorem k_set {σ : ga_S} {r p v n t : Int} (hr : 0 ≤ r ∧ r < 40) (hp : 0 ≤ p ∧ p < 12) (h1 : σ fW_has r p ≠ 0 → σ fW_propertyTypes 0 p = 1 → 0 ≤ σ fW_numbers r p ∧ σ fW_numbers r p + σ fW_lengths r p ≤ 5000) (h2 : σ fW_propertyTypes 0 p = 1 → 0 ≤ v ∧ v + n ≤ 5000) (hf : σ fR_fault 0 0 = 0) (ht : 0 ≤ t ∧ t < 5002) {d : Nat} (hd : 3 ≤ d) : (σ fW_has r p = 0 ∧ c_r_set d σ r p v n t = some (1, ga_up (ga_up (ga_up σ fW_has r p 1) fW_numbers r p v) fW_lengths r p n)) ∨ (σ fW_has r p ≠ 0 ∧ sV σ r p v n = true ∧ c_r_set d σ r p v n t = some (1, σ)) ∨ (σ fW_has r p ≠ 0 ∧ sV σ r p v n = false ∧ ∃ σ', c_r_set d σ r p v n t = some (0, σ') ∧ fr ntL σ σ' ∧ σ' fR_fault 0 0 = 5 ∧ σ' fR_where 0 0 = σ fT_places 0 t) := by
  obtain ⟨d, rfl⟩ : ∃ e, d = e + 1 := ⟨d - 1, by omega⟩
  have run0 := e_r_set d σ r p v n t
  rw [ck_ok _ hr, nn_ok _ hr.1, ck_ok _ hp] at run0
  by_cases c : σ fW_has r p = 0
  · rw [if_pos c, ck_ok _ hr, nn_ok _ hr.1, ck_ok _ hp, ck_ok _ hr, nn_ok _ hr.1, ck_ok _ hp, ck_ok _ hr, nn_ok _ hr.1, ck_ok _ hp] at run0
    exact Or.inl ⟨c, run0⟩
  · right
    rw [if_neg c, ck_ok _ hr, nn_ok _ hr.1, ck_ok _ hp, if_app (fun z => r_set_34 d σ r p v n t z)] at run0
    have run1 : c_r_set (d + 1) σ r p v n t = r_set_137 d σ t (b2i (sV σ r p v n)) := by
      rw [run0, e_r_set_34, ck_ok _ hp]
      unfold sV
      by_cases q : σ fW_propertyTypes 0 p = 1
      · rw [if_pos q, if_pos q, ck_ok _ hr, nn_ok _ hr.1, ck_ok _ hp]
        have b1 := h1 c q
        have b2 := h2 q
        by_cases w : σ fW_lengths r p = n
        · have s := k_set75 (σ := σ) (t := t) hr hp (by omega) b2 d 0 (Int.le_refl _)
          rw [if_pos w, e_r_set_70, s.1, decide_eq_true w, Bool.true_and]
        · rw [if_neg w, e_r_set_70, decide_eq_false w, Bool.false_and]
          show _ = r_set_137 d σ t 0
          by_cases z : 0 < n
          · rw [e_r_set_75, if_pos z, if_pos rfl]
          · rw [e_r_set_75, if_neg z]
      · rw [if_neg q, if_neg q]
        by_cases w : σ fW_numbers r p = v
        · rw [if_pos w, decide_eq_true w]; rfl
        · rw [if_neg w, decide_eq_false w]; rfl
    cases s : sV σ r p v n with
    | true =>
      rw [s, e_r_set_137, if_neg (by decide), e_r_set_151] at run1
      exact Or.inl ⟨c, rfl, run1⟩
    | false =>
      obtain ⟨σ', o1, o2, o3, o4⟩ := k_otherwise hf ht (d := d) (by omega)
      rw [s, e_r_set_137, if_pos (by decide), o1] at run1
      simp only [Option.bind_some] at run1
      rw [if_pos trivial] at run1
      exact Or.inr ⟨c, rfl, σ', run1, o2, o3, o4⟩
theorem m_isSameText {τ : ga_S} {x y a b : Int} (h1 : 0 ≤ x ∧ x + a ≤ 5000) (h2 : 0 ≤ y ∧ (a = b → y + a ≤ 5000)) {d : Nat} (hd : 1 ≤ d) : c_m_isSameText d τ x a y b = some (b2i (decide (a = b) && tEq (τ fM_story 0) x y 0 a), τ) := by
  obtain ⟨d, rfl⟩ : ∃ e, d = e + 1 := ⟨d - 1, by omega⟩
  have z : ∀ i, m_isSameText_16 d τ x a y 0 i = some (0, τ) := by
    intro i
    rw [e_m_isSameText_16]
    by_cases c : i < a
    · rw [if_pos c, if_pos rfl, z1_ok _ (Or.inl rfl)]
    · rw [if_neg c, z1_ok _ (Or.inl rfl)]
  rw [e_m_isSameText]
  by_cases c : a = b
  · have ya := h2.2 c
    have main : ∀ i, 0 ≤ i → m_isSameText_16 d τ x a y 1 i = some (b2i (tEq (τ fM_story 0) x y i a), τ) := by
      refine rg_ind (n := a) ?_ ?_
      · intro i h h0
        rw [e_m_isSameText_16, if_neg (by omega), z1_ok _ (Or.inr rfl), tEq_n h]; rfl
      · intro i h ih h0
        rw [e_m_isSameText_16, if_pos h, if_neg (by decide), w32_ok (x := x + i) (by omega), w32_ok (x := y + i) (by omega), ck_ok _ (by omega), ck_ok _ (by omega), tEq_s h]
        by_cases q : τ fM_story 0 (x + i) = τ fM_story 0 (y + i)
        · rw [if_pos q, e_m_isSameText_53, w32_ok (x := i + 1) (by omega), ih (by omega), decide_eq_true q, Bool.true_and]
        · rw [if_neg q, e_m_isSameText_53, z, decide_eq_false q, Bool.false_and]; rfl
    rw [if_pos c, e_m_isSameText_11, main 0 (Int.le_refl _), decide_eq_true c, Bool.true_and]
  · rw [if_neg c, e_m_isSameText_11, z, decide_eq_false c, Bool.false_and]; rfl
theorem m_tellsOtherwise {τ : ga_S} {p x y a b : Int} (hp : 0 ≤ p ∧ p < 12) (h1 : τ fM_propertyType 0 p = 1 → 0 ≤ x ∧ x + a ≤ 5000) (h2 : τ fM_propertyType 0 p = 1 → 0 ≤ y ∧ (a = b → y + a ≤ 5000)) {d : Nat} (hd : 2 ≤ d) : c_m_tellsOtherwise d τ p x a y b = some (b2i (!(if τ fM_propertyType 0 p = 1 then decide (a = b) && tEq (τ fM_story 0) x y 0 a else decide (x = y))), τ) := by
  obtain ⟨d, rfl⟩ : ∃ e, d = e + 1 := ⟨d - 1, by omega⟩
  rw [e_m_tellsOtherwise, ck_ok _ hp]
  by_cases c : τ fM_propertyType 0 p = 1
  · rw [if_pos c, if_pos c, m_isSameText (h1 c) (h2 c) (d := d) (by omega)]
    simp only [Option.bind_some]
    cases decide (a = b) && tEq (τ fM_story 0) x y 0 a with
    | true => rw [if_neg (by decide)]; rfl
    | false => rw [if_pos (by decide)]; rfl
  · rw [if_neg c, if_neg c]
    by_cases q : x = y
    · rw [if_pos q, decide_eq_true q]; rfl
    · rw [if_neg q, decide_eq_false q]; rfl
/-- what is told of one property in a row -/
def pvR (σ : ga_S) (T S Lg r p : Int) : Prop := (σ fW_has r p = 0 ∨ σ fW_has r p = 1) ∧ T = σ fW_has r p ∧ (σ fW_has r p ≠ 0 → p < σ fW_properties 0 0 ∧ (σ fW_propertyTypes 0 p ≠ 1 → S = σ fW_numbers r p) ∧ (σ fW_propertyTypes 0 p = 1 → Lg = σ fW_lengths r p ∧ sTx σ (σ fW_numbers r p) S (σ fW_lengths r p)) ∧ vlO σ p (σ fW_numbers r p) (σ fW_lengths r p))
theorem rowH_pv {σ τ : ga_S} {Ft Fs Fl : Nat} {base r : Int} : rowH σ τ Ft Fs Fl base r ↔ ∀ p, 0 ≤ p → p < 12 → pvR σ (τ Ft 0 (base + p)) (τ Fs 0 (base + p)) (τ Fl 0 (base + p)) r p := Iff.rfl
/-- both sides find the same -/
theorem sV_same {σ τ : ga_S} {S Lg r p v n m : Int} (hnm : σ fW_propertyTypes 0 p = 1 → m = n) (h : pvR σ 1 S Lg r p) (hh : σ fW_has r p ≠ 0) (et : τ fM_propertyType 0 p = σ fW_propertyTypes 0 p) (hst : τ fM_story 0 = σ fT_bytes 0) : (if τ fM_propertyType 0 p = 1 then decide (Lg = m) && tEq (τ fM_story 0) S v 0 Lg else decide (S = v)) = sV σ r p v n := by
  obtain ⟨_, _, h3⟩ := h
  obtain ⟨_, h4, h5, _⟩ := h3 hh
  unfold sV
  rw [et, hst]
  by_cases c : σ fW_propertyTypes 0 p = 1
  · obtain ⟨g1, g2, g3, g4⟩ := h5 c
    rw [if_pos c, if_pos c, g1, hnm c]
    by_cases q : σ fW_lengths r p = n
    · rw [decide_eq_true q, Bool.true_and, Bool.true_and, ← q]
      apply Bool.eq_iff_iff.mpr
      rw [tEq_1, tEq_1]
      constructor
      · intro w j j0 j1; rw [← g4 j j0 j1]; exact w j j0 j1
      · intro w j j0 j1; rw [g4 j j0 j1]; exact w j j0 j1
    · rw [decide_eq_false q, Bool.false_and, Bool.false_and]
  · rw [if_neg c, if_neg c, h4 c]
/-- a new value is there -/
theorem pvR_new {σ σ' : ga_S} {r p v n m : Int} (hnm : σ fW_propertyTypes 0 p = 1 → m = n) (hp : p < σ fW_properties 0 0) (vo : vlO σ p v n) (e : σ' = ga_up (ga_up (ga_up σ fW_has r p 1) fW_numbers r p v) fW_lengths r p n) : pvR σ' 1 v m r p := by
  have f : fr stW σ σ' := by rw [e]; exact fr_trans (fr_u (by decide)) (fr_trans (fr_u (by decide)) (fr_u (by decide)))
  have x1 : σ' fW_has r p = 1 := by rw [e, up_F (by decide), up_F (by decide), up_eq]
  have x2 : σ' fW_numbers r p = v := by rw [e, up_F (by decide), up_eq]
  have x3 : σ' fW_lengths r p = n := by rw [e, up_eq]
  unfold pvR vlO sTx at *
  rw [x1, x2, x3, f fW_properties (by decide), f fW_propertyTypes (by decide), f fT_size (by decide), f fT_bytes (by decide), f fW_values (by decide), f fW_valueTypes (by decide)]
  refine ⟨Or.inr rfl, rfl, fun _ => ⟨hp, fun _ => rfl, fun z => ⟨hnm z, (vo.2.1 z).1, (vo.2.1 z).2.2.1, fun i _ _ => rfl⟩, vo⟩⟩
/-- the same value is told once more -/
theorem pvR_same {σ : ga_S} {S Lg r p v n m : Int} (hnm : σ fW_propertyTypes 0 p = 1 → m = n) (h : pvR σ 1 S Lg r p) (hh : σ fW_has r p ≠ 0) (vo : vlO σ p v n) (s : sV σ r p v n = true) : pvR σ 1 v m r p := by
  obtain ⟨h1, h2, h3⟩ := h
  obtain ⟨h4, h5, h6, h7⟩ := h3 hh
  unfold sV at s
  refine ⟨h1, h2, fun _ => ⟨h4, fun c => ?_, fun c => ?_, h7⟩⟩
  · rw [if_neg c] at s; exact (of_decide_eq_true s).symm
  · rw [if_pos c] at s
    have s1 := (Bool.and_eq_true _ _).mp s
    have e := of_decide_eq_true s1.1
    have w := tEq_1.mp s1.2
    refine ⟨by rw [hnm c]; exact e.symm, (vo.2.1 c).1, by rw [e]; exact (vo.2.1 c).2.2.1, fun i i0 i1 => ?_⟩
    exact (w i i0 (by omega)).symm
/-- another place in the table -/
theorem pvR_other {σ σ' : ga_S} {T S Lg r p r' p' v n : Int} (h : pvR σ T S Lg r' p') (ne : ¬ (r' = r ∧ p' = p)) (e : σ' = ga_up (ga_up (ga_up σ fW_has r p 1) fW_numbers r p v) fW_lengths r p n) : pvR σ' T S Lg r' p' := by
  have f : fr stW σ σ' := by rw [e]; exact fr_trans (fr_u (by decide)) (fr_trans (fr_u (by decide)) (fr_u (by decide)))
  have x1 : σ' fW_has r' p' = σ fW_has r' p' := by rw [e, up_F (by decide), up_F (by decide), up_nat, if_neg ne]
  have x2 : σ' fW_numbers r' p' = σ fW_numbers r' p' := by rw [e, up_F (by decide), up_nat, if_neg ne, up_F (by decide)]
  have x3 : σ' fW_lengths r' p' = σ fW_lengths r' p' := by rw [e, up_nat, if_neg ne, up_F (by decide), up_F (by decide)]
  unfold pvR vlO sTx at *
  rw [x1, x2, x3, f fW_properties (by decide), f fW_propertyTypes (by decide), f fT_size (by decide), f fT_bytes (by decide), f fW_values (by decide), f fW_valueTypes (by decide)]
  exact h

/-! two objects are made related, on both sides -/
section
variable {σ τ : ga_S}
theorem k_rel1 {r a b k : Int} (hr : 0 ≤ r ∧ r < 6) (ha : 0 ≤ a ∧ a < 24) (hb : 0 ≤ b ∧ b < 24) (hk : 0 ≤ k ∧ k < σ fW_objects 0 0) (o24 : σ fW_objects 0 0 ≤ 24) (d : Nat) : w_relate_3 d σ r a b k = w_relate_36 d (ga_up σ fW_related r (24 * k + b) (if σ fW_oneA 0 r = 0 then σ fW_related r (24 * k + b) else 0)) r a b k := by
  rw [e_w_relate_3, if_pos hk.2, ck_ok _ hr]
  by_cases c : σ fW_oneA 0 r = 0
  · rw [if_pos c, if_pos c, up_self]
  · rw [if_neg c, if_neg c, ck_ok _ hr, nn_ok _ hr.1, w32_ok (x := 24 * k) (by omega), w32_ok (by omega), ck_ok _ (by omega)]
theorem k_rel2 {r a b k : Int} (hr : 0 ≤ r ∧ r < 6) (ha : 0 ≤ a ∧ a < 24) (hb : 0 ≤ b ∧ b < 24) (hk : 0 ≤ k ∧ k < 24) (d : Nat) : w_relate_36 d σ r a b k = w_relate_3 d (ga_up σ fW_related r (24 * a + k) (if σ fW_oneB 0 r = 0 then σ fW_related r (24 * a + k) else 0)) r a b (k + 1) := by
  rw [e_w_relate_36, ck_ok _ hr]
  by_cases c : σ fW_oneB 0 r = 0
  · rw [if_pos c, if_pos c, up_self, e_w_relate_60, w32_ok (by omega)]
  · rw [if_neg c, if_neg c, ck_ok _ hr, nn_ok _ hr.1, w32_ok (x := 24 * a) (by omega), w32_ok (by omega), ck_ok _ (by omega), e_w_relate_60, w32_ok (by omega)]
theorem m_rel1 {r a b k : Int} (hr : 0 ≤ r ∧ r < 6) (ha : 0 ≤ a ∧ a < 24) (hb : 0 ≤ b ∧ b < 24) (hk : 0 ≤ k ∧ k < τ fM_objects 0 0) (o24 : τ fM_objects 0 0 ≤ 24) (d : Nat) : m_nows_46 d τ a r b k = m_nows_118 d τ a r b k (if τ fM_related 0 (576 * r + (24 * k + b)) = 0 then 0 else if τ fM_firstOne 0 r = 0 then 1 else if k = a then 1 else 0) (576 * r + (24 * k + b)) := by
  rw [e_m_nows_46, if_pos hk.2, w32_ok (x := 576 * r) (by omega), w32_ok (x := 24 * k) (by omega), w32_ok (x := 576 * r + 24 * k) (by omega), w32_ok (x := 576 * r + 24 * k + b) (by omega), show 576 * r + 24 * k + b = 576 * r + (24 * k + b) by omega, ck_ok _ (by omega)]
  by_cases c : τ fM_related 0 (576 * r + (24 * k + b)) = 0
  · rw [if_pos c, if_pos c, e_m_nows_117]
  · rw [if_neg c, if_neg c, ck_ok _ hr]
    by_cases c2 : τ fM_firstOne 0 r = 0
    · rw [if_pos c2, if_pos c2, e_m_nows_113]
    · rw [if_neg c2, if_neg c2]
      by_cases c3 : k = a
      · rw [if_pos c3, if_pos c3, e_m_nows_113]
      · rw [if_neg c3, if_neg c3, e_m_nows_117]
theorem m_rel2 {r a b k s0 : Int} (hr : 0 ≤ r ∧ r < 6) (ha : 0 ≤ a ∧ a < 24) (hb : 0 ≤ b ∧ b < 24) (hk : 0 ≤ k ∧ k < 24) (h0 : s0 = 0 ∨ s0 = 1) {τ1 : ga_S} (e1 : τ1 = ga_up τ fM_related 0 (576 * r + (24 * k + b)) s0) (d : Nat) : m_nows_118 d τ a r b k s0 (576 * r + (24 * k + b)) = m_nows_46 d (ga_up τ1 fM_related 0 (576 * r + (24 * a + k)) (if τ1 fM_related 0 (576 * r + (24 * a + k)) = 0 then 0 else if τ fM_secondOne 0 r = 0 then 1 else if k = b then 1 else 0)) a r b (k + 1) := by
  rw [e_m_nows_118, ck_ok _ (by omega), z1_ok _ h0, w32_ok (x := 576 * r) (by omega), w32_ok (x := 24 * a) (by omega), w32_ok (x := 576 * r + 24 * a) (by omega), w32_ok (x := 576 * r + 24 * a + k) (by omega), show 576 * r + 24 * a + k = 576 * r + (24 * a + k) by omega, ck_ok _ (by omega), ← e1]
  by_cases c : τ1 fM_related 0 (576 * r + (24 * a + k)) = 0
  · rw [if_pos c, if_pos c, e_m_nows_180, e_m_nows_181, ck_ok _ (by omega), z1_ok _ (Or.inl rfl), w32_ok (by omega)]
  · rw [if_neg c, if_neg c, ck_ok _ hr]
    by_cases c2 : τ fM_secondOne 0 r = 0
    · rw [if_pos c2, if_pos c2, e_m_nows_176, e_m_nows_181, ck_ok _ (by omega), z1_ok _ (Or.inr rfl), w32_ok (by omega)]
    · rw [if_neg c2, if_neg c2]
      by_cases c3 : k = b
      · rw [if_pos c3, if_pos c3, e_m_nows_176, e_m_nows_181, ck_ok _ (by omega), z1_ok _ (Or.inr rfl), w32_ok (by omega)]
      · rw [if_neg c3, if_neg c3, e_m_nows_180, e_m_nows_181, ck_ok _ (by omega), z1_ok _ (Or.inl rfl), w32_ok (by omega)]
theorem cell_eq {x y f m : Int} (hx : (x = 0 ∨ x = 1) ∧ y = x) (hf : (f = 0 ∨ f = 1) ∧ m = f) {P : Prop} [Decidable P] (np : ¬ P) : ((if f = 0 then x else 0) = 0 ∨ (if f = 0 then x else 0) = 1) ∧ (if y = 0 then (0 : Int) else if m = 0 then 1 else if P then 1 else 0) = (if f = 0 then x else 0) := by
  obtain ⟨hx, rfl⟩ := hx
  obtain ⟨hf, rfl⟩ := hf
  by_cases c : m = 0
  · rw [if_pos c, if_pos c]
    refine ⟨hx, ?_⟩
    rcases hx with h | h
    · rw [if_pos h, h]
    · rw [if_neg (by omega), h]
  · rw [if_neg c, if_neg c, if_neg np]
    refine ⟨Or.inl rfl, ?_⟩
    split <;> rfl
theorem v01 {y m : Int} {P : Prop} [Decidable P] : (if y = 0 then (0 : Int) else if m = 0 then 1 else if P then 1 else 0) = 0 ∨ (if y = 0 then (0 : Int) else if m = 0 then 1 else if P then 1 else 0) = 1 := by
  split
  · exact Or.inl rfl
  · split
    · exact Or.inr rfl
    · split
      · exact Or.inr rfl
      · exact Or.inl rfl
theorem rel_l {r a b O : Int} (r6 : r < 6) (ha : 0 ≤ a ∧ a < O) (hb : 0 ≤ b ∧ b < O) (O24 : O ≤ 24) (d d' : Nat) : ∀ k, 0 ≤ k → k ≤ O → ∀ σ τ, RWc σ τ r (24 * a + b) → σ fW_objects 0 0 = O → τ fM_objects 0 0 = O → (0 ≤ r ∧ r < σ fW_relations 0 0) → σ fW_relations 0 0 ≤ 6 → ∃ σ' τ', w_relate_3 d σ r a b k = w_relate_3 d σ' r a b O ∧ m_nows_46 d' τ a r b k = m_nows_46 d' τ' a r b O ∧ fr [fW_related] σ σ' ∧ fr [fM_related] τ τ' ∧ RWc σ' τ' r (24 * a + b) := by
  refine rg_ind (n := O) (fun k hk h0 h1 σ τ R _ _ _ _ => ?_) (fun k hk ih h0 h1 σ τ R e1 e2 hr hr6 => ?_)
  · have e : k = O := by omega
    subst e
    exact ⟨σ, τ, rfl, rfl, fr_refl _ _, fr_refl _ _, R⟩
  · obtain ⟨q1, q2, q3, q4, q5⟩ := R.1 r hr.1 hr.2
    obtain ⟨x, ex⟩ : ∃ z, z = (if σ fW_oneA 0 r = 0 then σ fW_related r (24 * k + b) else 0) := ⟨_, rfl⟩
    obtain ⟨y, ey⟩ : ∃ z : Int, z = (if τ fM_related 0 (576 * r + (24 * k + b)) = 0 then 0 else if τ fM_firstOne 0 r = 0 then 1 else if k = a then 1 else 0) := ⟨_, rfl⟩
    have y01 : y = 0 ∨ y = 1 := by rw [ey]; exact v01
    obtain ⟨σ2, es2⟩ : ∃ z, z = ga_up σ fW_related r (24 * k + b) x := ⟨_, rfl⟩
    obtain ⟨τ2, et2⟩ : ∃ z, z = ga_up τ fM_related 0 (576 * r + (24 * k + b)) y := ⟨_, rfl⟩
    have f2 : fr [fW_related] σ σ2 := by rw [es2]; exact fr_u (by decide)
    have g2 : fr [fM_related] τ τ2 := by rw [et2]; exact fr_u (by decide)
    have R2 : RWc σ2 τ2 r (24 * a + b) := by
      refine RWc_set R hr hr6 (i := 24 * k + b) (by omega) ?_ es2 et2
      by_cases c : k = a
      · left; rw [c]
      · right
        have w := cell_eq (q5 (24 * k + b) (by omega) (by omega) (by omega)) ⟨q1, q3⟩ (P := k = a) c
        rw [← ex, ← ey] at w
        exact w
    have hr2 : 0 ≤ r ∧ r < σ2 fW_relations 0 0 := by rw [f2 _ (by decide)]; exact hr
    have hr62 : σ2 fW_relations 0 0 ≤ 6 := by rw [f2 _ (by decide)]; exact hr6
    obtain ⟨p1, p2, p3, p4, p5⟩ := R2.1 r hr2.1 hr2.2
    obtain ⟨x', ex'⟩ : ∃ z, z = (if σ2 fW_oneB 0 r = 0 then σ2 fW_related r (24 * a + k) else 0) := ⟨_, rfl⟩
    obtain ⟨y', ey'⟩ : ∃ z : Int, z = (if τ2 fM_related 0 (576 * r + (24 * a + k)) = 0 then 0 else if τ fM_secondOne 0 r = 0 then 1 else if k = b then 1 else 0) := ⟨_, rfl⟩
    obtain ⟨σ3, es3⟩ : ∃ z, z = ga_up σ2 fW_related r (24 * a + k) x' := ⟨_, rfl⟩
    obtain ⟨τ3, et3⟩ : ∃ z, z = ga_up τ2 fM_related 0 (576 * r + (24 * a + k)) y' := ⟨_, rfl⟩
    have f3 : fr [fW_related] σ2 σ3 := by rw [es3]; exact fr_u (by decide)
    have g3 : fr [fM_related] τ2 τ3 := by rw [et3]; exact fr_u (by decide)
    have R3 : RWc σ3 τ3 r (24 * a + b) := by
      refine RWc_set R2 hr2 hr62 (i := 24 * a + k) (by omega) ?_ es3 et3
      by_cases c : k = b
      · left; rw [c]
      · right
        rw [g2 fM_secondOne (by decide)] at p4
        have w := cell_eq (p5 (24 * a + k) (by omega) (by omega) (by omega)) ⟨p2, p4⟩ (P := k = b) c
        rw [← ex', ← ey'] at w
        exact w
    obtain ⟨σ', τ', c1, c2, c3, c4, c5⟩ := ih (by omega) (by omega) σ3 τ3 R3 (by rw [f3 _ (by decide), f2 _ (by decide)]; exact e1) (by rw [g3 _ (by decide), g2 _ (by decide)]; exact e2) (by rw [f3 _ (by decide)]; exact hr2) (by rw [f3 _ (by decide)]; exact hr62)
    refine ⟨σ', τ', ?_, ?_, fr_trans f2 (fr_trans f3 c3), fr_trans g2 (fr_trans g3 c4), c5⟩
    · rw [k_rel1 ⟨hr.1, r6⟩ (by omega) (by omega) (by omega) (by omega), ← ex, ← es2, k_rel2 ⟨hr.1, r6⟩ (by omega) (by omega) (by omega), ← ex', ← es3]
      exact c1
    · rw [m_rel1 ⟨hr.1, r6⟩ (by omega) (by omega) (by omega) (by omega), ← ey, m_rel2 ⟨hr.1, r6⟩ (by omega) (by omega) (by omega) y01 et2, ← ey', ← et3]
      exact c2
theorem rel_J (R : RWe σ τ) {r a b : Int} (hr : 0 ≤ r ∧ r < σ fW_relations 0 0) (r6 : σ fW_relations 0 0 ≤ 6) (ha : 0 ≤ a ∧ a < σ fW_objects 0 0) (hb : 0 ≤ b ∧ b < σ fW_objects 0 0) (o24 : σ fW_objects 0 0 ≤ 24) (eo : τ fM_objects 0 0 = σ fW_objects 0 0) {d d' : Nat} (hd : 1 ≤ d) : ∃ σ' τ', c_w_relate d σ r a b = some (0, σ') ∧ m_nows_46 d' τ a r b 0 = some (0, τ') ∧ fr [fW_related] σ σ' ∧ fr [fM_related] τ τ' ∧ RWe σ' τ' := by
  obtain ⟨d, rfl⟩ : ∃ e, d = e + 1 := ⟨d - 1, by omega⟩
  obtain ⟨σ1, τ1, c1, c2, c3, c4, c5⟩ := rel_l (r := r) (a := a) (b := b) (O := σ fW_objects 0 0) (by omega) ha hb o24 d d' 0 (Int.le_refl _) (by omega) σ τ (RWc_of R _ _) rfl eo hr r6
  refine ⟨_, _, ?_, ?_, fr_trans c3 (fr_u (by decide)), fr_trans c4 (fr_u (by decide)), RWc_to c5 (by rw [c3 _ (by decide)]; exact hr) (by rw [c3 _ (by decide)]; exact r6) (by omega) rfl rfl⟩
  · rw [e_w_relate, c1, e_w_relate_3, c3 fW_objects (by decide), if_neg (by omega), ck_ok _ (by omega), nn_ok _ hr.1, w32_ok (x := 24 * a) (by omega), w32_ok (by omega), ck_ok _ (by omega)]
  · rw [c2, e_m_nows_46, c4 fM_objects (by decide), eo, if_neg (by omega), w32_ok (x := 576 * r) (by omega), w32_ok (x := 24 * a) (by omega), w32_ok (x := 576 * r + 24 * a) (by omega), w32_ok (x := 576 * r + 24 * a + b) (by omega), show 576 * r + 24 * a + b = 576 * r + (24 * a + b) by omega, ck_ok _ (by omega)]
end

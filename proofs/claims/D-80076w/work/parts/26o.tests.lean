/-! all tests of a sentence -/
section
variable {σ0 τ0 : ga_S} {f : Int} {N : Nat}
theorem cd_le (E : E0 σ0 τ0 f N) {a t r : Int} (h0 : 0 ≤ a) (hat : a ≤ t) (ht : t ≤ N) (hr : 0 ≤ r ∧ r ≤ 4) : cd σ0 a 0 ≤ cd σ0 t r := by
  by_cases z : a = t
  · rw [z]; unfold cd; omega
  · have := cd_lt E.2.1 h0 (show a < t by omega) ht (r := 0) (s := r) (by omega) (by omega)
    omega
theorem cnC_ge (E : E0 σ0 τ0 f N) {a t n : Int} (h0 : 0 ≤ a) (hat : a ≤ t) (ht : t ≤ N) : cd σ0 a 0 ≤ cnC σ0 t n := by
  have c0 := cd_r E.2.1 (t := a) (r := 0) (by omega) (by omega)
  have c2 := cd_le E h0 hat ht (r := 2) (by omega)
  have c3 := cd_le E h0 hat ht (r := 3) (by omega)
  unfold cnC
  split
  · omega
  · split <;> omega
theorem thC_ge (E : E0 σ0 τ0 f N) {a t ik nk b : Int} (h0 : 0 ≤ a) (hat : a ≤ t) (S : thS σ0 N t b) : cd σ0 a 0 ≤ thC σ0 ik nk t b := by
  have c0 := cd_r E.2.1 (t := a) (r := 0) (by have := S.1; omega) (by omega)
  have c2 := cd_le E h0 (show a ≤ thW σ0 t b by have := (thW_r S).1; omega) (thW_t S).2 (r := 2) (by omega)
  unfold thC
  split <;> omega
theorem if_ge {p : Prop} [Decidable p] {x y z : Int} (h1 : x ≤ y) (h2 : x ≤ z) : x ≤ if p then y else z := by
  split <;> assumption
/-- all that a test notes is not ahead of it -/
theorem teCd_ge (E : E0 σ0 τ0 f N) {σ3 : ga_S} {a b j ik nk : Int} {now : Bool} (T : tRw σ3 τ0 f a b j) (kk : σ3 fT_kinds 0 = σ0 fT_kinds 0) (ha : 0 ≤ a) (hab : a ≤ b) (hb : b ≤ N) : cd σ0 a 0 ≤ teCd σ0 ik nk now σ3 a b := by
  have c0 := cd_r E.2.1 (t := a) (r := 0) (by omega) (by omega)
  unfold teCd
  by_cases c4 : σ3 fR_form 0 0 = 4
  · rw [if_pos c4]; exact cnC_ge E ha (Int.le_refl _) (by omega)
  · rw [if_neg c4]
    obtain ⟨t1, t2, t3, t4, t5, t6, t7, t8, t9, t10⟩ := tRw_0 E T kk ha hb c4
    have h1 := thC_ge (ik := ik) (nk := nk) E ha t3.1 t2
    have h2 : cd σ0 a 0 ≤ teC2 σ0 ik nk now σ3 b := by
      unfold teC2
      by_cases c1 : σ3 fR_form 0 0 = 1
      · rw [if_pos c1]
        have := t4 c1
        exact thC_ge E ha this.2.2.2.2 this.2.1
      · rw [if_neg c1]
        by_cases cz : σ3 fR_form 0 0 = 0
        · rw [if_pos cz]
          have := t5 cz
          exact if_ge (by omega) (cnC_ge E ha this.2.2.2 (frB_t this.2.1).2)
        · rw [if_neg cz]
          have e23 : σ3 fR_form 0 0 = 2 ∨ σ3 fR_form 0 0 = 3 := by omega
          have p := t6 e23
          have cp := cd_le E ha p.2.2 (frB_t p.2.1).2 (r := 2) (by omega)
          by_cases c3 : σ3 fR_form 0 0 = 3
          · rw [if_pos c3]; exact if_ge (by omega) cp
          · rw [if_neg c3]
            have q := t7 (by omega)
            have cq := cd_le E ha q.2.2.2.1 (show σ3 fR_behindFrom 0 0 ≤ N by omega) (r := 2) (by omega)
            exact if_ge (if_ge (by omega) cq) cp
    omega
/-- ahead of test i -/
def TSq (σ0 τ0 : ga_S) (ik nk ik' nk' : Int) (σ τ : ga_S) (c i : Int) : Prop :=
  KC σ0 σ ∧ KM τ0 τ ∧ FT σ c ∧ GT τ c ∧ σ fR_runs 0 0 = σ0 fR_runs 0 0 ∧ rKeepC σ0 σ ∧ (σ fR_itKind 0 0 = ik ∧ σ fR_nounKind 0 0 = nk) ∧ (τ fM_itKind 0 0 = ik' ∧ τ fM_nounKind 0 0 = nk') ∧ σ fR_rule 0 0 = σ0 fR_draft 0 0 ∧
  ((ik = ik' ∧ nk = nk') ∨ ∀ k, 0 ≤ k → k < σ0 fR_tests 0 0 → c ≤ cd σ0 (σ0 fR_testFrom 0 k) 0) ∧
  (c = 1000000 → i ≤ 6 ∧ ∀ k, 0 ≤ k → k < i → stT σ0 ik nk false σ τ (14 * σ0 fR_draft 0 0 + k) (τ0 fM_tests 0 0 + k))
theorem KC_rd {σ : ga_S} (K : KC σ0 σ) : σ fR_tests 0 0 = σ0 fR_tests 0 0 ∧ σ fR_testFrom = σ0 fR_testFrom ∧ σ fR_testTo = σ0 fR_testTo := ⟨by rw [K.1 _ (by decide)], K.1 _ (by decide), K.1 _ (by decide)⟩
theorem rKeepC_t {σ σ1 σ2 : ga_S} (a : rKeepC σ σ1) (b : rKeepC σ1 σ2) (h : σ1 fR_runs 0 0 = σ fR_runs 0 0) : rKeepC σ σ2 := fun i hi => by
  have x := a i hi
  have y := b i (by rw [h]; exact hi)
  exact ⟨y.1.trans x.1, y.2.trans x.2⟩
theorem ts_step (E : E0 σ0 τ0 f N) (hm : τ0 fM_runs 0 0 ≤ 2600) (hd0 : 0 ≤ σ0 fR_draft 0 0) (hq : 0 ≤ τ0 fM_tests 0 0 ∧ τ0 fM_tests 0 0 ≤ 700) (S : teS σ0 τ0 f N) {ik nk ik' nk' : Int} (kI : kO σ0 ik) (kN : kO σ0 nk) (kI' : kO σ0 ik') (kN' : kO σ0 nk') {σ τ : ga_S} {c i : Int} (H : TSq σ0 τ0 ik nk ik' nk' σ τ c i) (h0 : 0 ≤ i) (hi : i < σ0 fR_tests 0 0) {d e : Nat} (hd : 9 ≤ d) (he : 7 ≤ e) : ∃ σ' τ' c', r_checkTests_2 d σ i = r_checkTests_2 d σ' (i + 1) ∧ m_testsMeant_2 e τ i = m_testsMeant_2 e τ' (i + 1) ∧ TSq σ0 τ0 ik nk ik' nk' σ' τ' c' (i + 1) ∧ fr tstL σ σ' ∧ fr tstM τ τ' ∧ qKp (τ0 fM_tests 0 0 + i) τ τ' ∧ c' ≤ c := by
  obtain ⟨K, M, hF, hG, hR, hK, ⟨i1, i2⟩, ⟨j1, j2⟩, hr, hA, hS⟩ := H
  have T := S.2.2 i h0 hi
  obtain ⟨⟨ha, hT, hb, hj0, hj1⟩, T2⟩ := id T
  have hab := hT.1
  have kd := KC_rd K
  have le := FT_le hF
  obtain ⟨a, ea⟩ : ∃ x, x = σ0 fR_testFrom 0 i := ⟨_, rfl⟩
  obtain ⟨b, eb⟩ : ∃ x, x = σ0 fR_testTo 0 i := ⟨_, rfl⟩
  rw [← ea, ← eb] at T T2 hT
  rw [← ea] at ha hab
  rw [← eb] at hb hab
  have ga := cd_r E.2.1 (t := a) (r := 0) (by omega) (by omega)
  have tn : τ fM_tShown 0 0 = σ0 fR_tests 0 0 := by rw [M _ (by decide)]; exact S.2.1
  have tt : τ fM_tests 0 0 = τ0 fM_tests 0 0 := by rw [M _ (by decide)]
  have tf : τ fM_tFirst = τ0 fM_tFirst := M _ (by decide)
  -- the model, once the code of the component's test is known
  have mod : ∀ (σ3 : ga_S), tRw σ3 τ0 f a b i → σ3 fT_kinds 0 = σ0 fT_kinds 0 → ∃ τ', m_testsMeant_2 e τ i = m_testsMeant_2 e τ' (i + 1) ∧ fr tstM τ τ' ∧ KM τ0 τ' ∧ qKp (τ0 fM_tests 0 0 + i) τ τ' ∧ GT τ' (min (min c (if i < 6 then 1000000 else cd σ0 a 0)) (teCd σ0 ik' nk' false σ3 a b)) ∧ teRoM σ0 ik' nk' false σ3 a b (τ0 fM_tests 0 0 + i) τ' := by
    intro σ3 R kk
    obtain ⟨τ1, g1, g2, g3, g4⟩ := m_need E M hG (t := a) (t' := f + a) (r := 0) (why := 9) (g := if i < 6 then 1 else 0) (by omega) rfl (by omega) (by decide) (d := e) (by omega)
    have g4' : GT τ1 (min c (if i < 6 then 1000000 else cd σ0 a 0)) := by
      by_cases z : i < 6
      · rw [if_pos z, if_neg (by decide)] at g4
        rw [if_pos z]; exact g4
      · rw [if_neg z, if_pos rfl] at g4
        rw [if_neg z]; exact g4
    obtain ⟨τ2, x1, x2, x3, x4, x5, x6⟩ := m_testMeant E g3 g4' (q := τ0 fM_tests 0 0 + i) (now := false) ha hab hb R kk (by rw [g2 _ (by decide)]; exact j1) (by rw [g2 _ (by decide)]; exact j2) kI' kN' hm ⟨hj0, hj1⟩ (by omega) (d := e) he
    have x1' : c_m_testMeant e τ1 i (τ0 fM_tests 0 0 + i) 0 = some (0, τ2) := x1
    refine ⟨τ2, ?_, fr_trans (fr_sub g2 (by decide)) x2, x3, qKp_t (qKp_f g2 (by decide)) x4, x5, x6⟩
    rw [e_m_testsMeant_2, tn, if_pos hi, if_app (m_testsMeant_22 e τ i), e_m_testsMeant_22, ck_ok _ ⟨hj0, hj1⟩, tf, R.2.2, g1]
    simp only [Option.bind_some]
    rw [g2 fM_tests (by decide), tt, w32_ok (by omega), x1']
    simp only [Option.bind_some]
    rw [w32_ok (by omega)]
  have D : inD σ0 (14 * σ0 fR_draft 0 0 + i) ∨ 6 ≤ i := by
    by_cases z : i < 6
    · exact Or.inl (Or.inr (by omega))
    · exact Or.inr (by omega)
  by_cases c6 : i < 6
  · have D := D.resolve_right (by omega)
    obtain ⟨σ3, σ1, a1, a2, a3, a4, a5, a6, a7, a8, a9, a10⟩ := k_test E K hF (s := 14 * σ0 fR_draft 0 0 + i) (now := false) T hR i1 i2 kI kN (by omega) D (d := d) hd
    obtain ⟨τ1, b1, b2, b3, b4, b5, b6⟩ := mod σ3 a2.1 a3
    rw [if_pos c6, Int.min_eq_left le] at b5
    have gA := teCd_ge (ik := ik) (nk := nk) (now := false) E a2.1 a3 ha hab hb
    have gB := teCd_ge (ik := ik') (nk := nk') (now := false) E a2.1 a3 ha hab hb
    have same : min c (teCd σ0 ik' nk' false σ3 a b) = min c (teCd σ0 ik nk false σ3 a b) := by
      rcases hA with hA | hA
      · rw [hA.1, hA.2]
      · have := hA i h0 hi
        rw [← ea] at this
        omega
    rw [same] at b5
    have a1' : c_r_test d σ (14 * σ0 fR_draft 0 0 + i) a b 0 = some (0, σ1) := a1
    refine ⟨σ1, τ1, _, ?_, b1, ⟨a5, b3, a9, b5, a7, rKeepC_t hK a8 hR, ⟨by rw [a4 _ (by decide)]; exact i1, by rw [a4 _ (by decide)]; exact i2⟩, ⟨by rw [b2 _ (by decide)]; exact j1, by rw [b2 _ (by decide)]; exact j2⟩, by rw [a4 _ (by decide)]; exact hr, ?_, fun z => ?_⟩, a4, b2, b4, by omega⟩
    · rw [e_r_checkTests_2, kd.1, if_pos hi, if_pos c6, hr, nn_ok _ hd0, nn_ok _ hd0, ck_ok _ (by omega), ck_ok _ (by omega), ck_ok _ (by omega), kd.2.1, kd.2.2, ← ea, ← eb, a1']
      simp only [Option.bind_some]
      rw [e_r_checkTests_57, w32_ok (by omega)]
    · rcases hA with hA | hA
      · exact Or.inl hA
      · exact Or.inr (fun k x y => by have := hA k x y; omega)
    · have zc : c = 1000000 := by omega
      have ze : 1000000 ≤ teCd σ0 ik nk false σ3 a b := by omega
      refine ⟨by omega, fun k k0 k1 => ?_⟩
      by_cases ki : k = i
      · have ag : ik = ik' ∧ nk = nk' := by
          rcases hA with hA | hA
          · exact hA
          · have := hA i h0 hi
            rw [← ea] at this
            omega
        rw [ki]
        rw [← ag.1, ← ag.2] at b6
        exact te_stT E a2.1 a3 ha hab hb ze a10 b6
      · exact stT_keep ((hS zc).2 k k0 (by omega)) a6 b4 (by omega) (by omega)
  · -- too many
    obtain ⟨σ1, e1⟩ : ∃ x, x = ga_up σ fR_bad 0 0 (-1) := ⟨_, rfl⟩
    have f1 : fr [fR_bad] σ σ1 := by rw [e1]; exact fr_u (by decide)
    have K1 := KC_f K f1 (by decide)
    obtain ⟨σ3, _, x2, _, _, _, x6⟩ := T2 σ1 (K1.2.1 _ (by decide)) (by rw [e1, up_eq]) (by rw [f1 _ (by decide)]; exact hR) 8 (by omega)
    have K3 := KC_f K1 x2 (by decide)
    have kk3 : σ3 fT_kinds 0 = σ0 fT_kinds 0 := K3.2.1 _ (by decide)
    obtain ⟨τ1, b1, b2, b3, b4, b5, b6⟩ := mod σ3 x6.1 kk3
    have gB := teCd_ge (ik := ik') (nk := nk') (now := false) E x6.1 kk3 ha hab hb
    obtain ⟨σ2, a1, a2, a3⟩ := k_note E.2.1 E.1.2.2.1 K hF (t := a) (r := 0) (why := 9) (by omega) (by omega) (by decide) (d := d) (by omega)
    rw [if_neg c6, show min (min c (cd σ0 a 0)) (teCd σ0 ik' nk' false σ3 a b) = min c (cd σ0 a 0) by omega] at b5
    refine ⟨σ2, τ1, _, ?_, b1, ⟨KC_f K a2 (by decide), b3, a3, b5, by rw [a2 _ (by decide)]; exact hR, rKeepC_t hK (rKeepC_eq (a2 _ (by decide)) (a2 _ (by decide))) hR, ⟨by rw [a2 _ (by decide)]; exact i1, by rw [a2 _ (by decide)]; exact i2⟩, ⟨by rw [b2 _ (by decide)]; exact j1, by rw [b2 _ (by decide)]; exact j2⟩, by rw [a2 _ (by decide)]; exact hr, ?_, fun z => by omega⟩, fr_sub a2 (by decide), b2, b4, by omega⟩
    · rw [e_r_checkTests_2, kd.1, if_pos hi, if_neg c6, ck_ok _ (by omega), kd.2.1, ← ea, a1]
      simp only [Option.bind_some]
      rw [e_r_checkTests_57, w32_ok (by omega)]
    · rcases hA with hA | hA
      · exact Or.inl hA
      · exact Or.inr (fun k x y => by have := hA k x y; omega)
theorem ts_loop (E : E0 σ0 τ0 f N) (hm : τ0 fM_runs 0 0 ≤ 2600) (hd0 : 0 ≤ σ0 fR_draft 0 0) (hq : 0 ≤ τ0 fM_tests 0 0 ∧ τ0 fM_tests 0 0 ≤ 700) (S : teS σ0 τ0 f N) {ik nk ik' nk' : Int} (kI : kO σ0 ik) (kN : kO σ0 nk) (kI' : kO σ0 ik') (kN' : kO σ0 nk') {d e : Nat} (hd : 9 ≤ d) (he : 7 ≤ e) : ∀ i, 0 ≤ i → i ≤ σ0 fR_tests 0 0 → ∀ (σ τ : ga_S) (c : Int), TSq σ0 τ0 ik nk ik' nk' σ τ c i → ∃ σ' τ' c', r_checkTests_2 d σ i = r_checkTests_2 d σ' (σ0 fR_tests 0 0) ∧ m_testsMeant_2 e τ i = m_testsMeant_2 e τ' (σ0 fR_tests 0 0) ∧ TSq σ0 τ0 ik nk ik' nk' σ' τ' c' (σ0 fR_tests 0 0) ∧ fr tstL σ σ' ∧ fr tstM τ τ' ∧ (∀ F, F ∈ qL → ∀ k, k < τ0 fM_tests 0 0 ∨ τ0 fM_tests 0 0 + σ0 fR_tests 0 0 ≤ k → τ' F 0 k = τ F 0 k) ∧ c' ≤ c := by
  refine rg_ind (n := σ0 fR_tests 0 0) (fun i hi h0 hle σ τ c H => ?_) (fun i hi ih h0 hle σ τ c H => ?_)
  · have e : i = σ0 fR_tests 0 0 := by omega
    rw [e] at H ⊢
    exact ⟨σ, τ, c, rfl, rfl, H, fr_refl _ _, fr_refl _ _, fun _ _ _ _ => rfl, Int.le_refl _⟩
  · obtain ⟨σ1, τ1, c1, a1, a2, a3, a4, a5, a6, a7⟩ := ts_step E hm hd0 hq S kI kN kI' kN' H h0 hi hd he
    obtain ⟨σ2, τ2, c2, b1, b2, b3, b4, b5, b6, b7⟩ := ih (by omega) (by omega) σ1 τ1 c1 a3
    exact ⟨σ2, τ2, c2, by rw [a1, b1], by rw [a2, b2], b3, fr_trans a4 b4, fr_trans a5 b5, fun F hF k hk => (b6 F hF k hk).trans (a6 F hF k (by omega)), by omega⟩
/-- all tests, on both sides -/
theorem ts_all (E : E0 σ0 τ0 f N) (hm : τ0 fM_runs 0 0 ≤ 2600) (hd0 : 0 ≤ σ0 fR_draft 0 0) (hq : 0 ≤ τ0 fM_tests 0 0 ∧ τ0 fM_tests 0 0 ≤ 700) (S : teS σ0 τ0 f N) {ik nk ik' nk' : Int} (kI : kO σ0 ik) (kN : kO σ0 nk) (kI' : kO σ0 ik') (kN' : kO σ0 nk') {d e : Nat} (hd : 10 ≤ d) (he : 8 ≤ e) {σ τ : ga_S} {c : Int} (H : TSq σ0 τ0 ik nk ik' nk' σ τ c 0) : ∃ σ' τ' c', c_r_checkTests d σ = some (0, ga_up σ' fQ_tests (σ0 fR_draft 0 0) 0 (σ0 fR_tests 0 0)) ∧ c_m_testsMeant e τ = some (0, τ') ∧ TSq σ0 τ0 ik nk ik' nk' σ' τ' c' (σ0 fR_tests 0 0) ∧ fr tstL σ σ' ∧ fr tstM τ τ' ∧ (∀ F, F ∈ qL → ∀ k, k < τ0 fM_tests 0 0 ∨ τ0 fM_tests 0 0 + σ0 fR_tests 0 0 ≤ k → τ' F 0 k = τ F 0 k) ∧ c' ≤ c := by
  obtain ⟨d, rfl⟩ : ∃ e, d = e + 1 := ⟨d - 1, by omega⟩
  obtain ⟨e, rfl⟩ : ∃ x, e = x + 1 := ⟨e - 1, by omega⟩
  obtain ⟨σ', τ', c', a1, a2, a3, a4, a5, a6, a7⟩ := ts_loop E hm hd0 hq S kI kN kI' kN' (d := d) (e := e) (by omega) (by omega) 0 (Int.le_refl _) S.1 σ τ c H
  obtain ⟨K, M, _, _, _, _, _, _, hr, _⟩ := id a3
  refine ⟨σ', τ', c', ?_, ?_, a3, a4, a5, a6, a7⟩
  · rw [e_r_checkTests, a1, e_r_checkTests_2, (KC_rd K).1, if_neg (by omega), hr, nn_ok _ hd0]
  · rw [e_m_testsMeant, a2, e_m_testsMeant_2, M fM_tShown (by decide), S.2.1, if_neg (by omega)]
end

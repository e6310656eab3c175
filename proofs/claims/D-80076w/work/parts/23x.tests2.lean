/-! tests of a definition or a rule, on both sides -/
/-- how far apart tokens stand, at least -/
def LEN (pl : Int → Int) (K : Int → Int) (N : Nat) : Prop := 0 ≤ pl 0 ∧ pl N ≤ 5000 ∧ (∀ k : Int, 0 ≤ k → k < N → pl k ≤ pl (k + 1)) ∧ (∀ k : Int, 0 ≤ k → k < N → (K k = 25 ∨ K k = 46 ∨ (52 ≤ K k ∧ K k ≤ 58)) → pl k + 3 ≤ pl (k + 1))
theorem LEN_le {pl K : Int → Int} {N : Nat} (h : LEN pl K N) {a b : Int} (ha : 0 ≤ a) (hab : a ≤ b) (hb : b ≤ N) : pl a ≤ pl b := by
  obtain ⟨n, hn⟩ : ∃ n : Nat, b = a + n := ⟨(b - a).toNat, by omega⟩
  subst hn
  clear hab
  induction n with
  | zero => rw [show a + ((0 : Nat) : Int) = a from by omega]; exact Int.le_refl _
  | succ n ih =>
    have := ih (by omega)
    have g := h.2.2.1 (a + n) (by omega) (by omega)
    rw [show a + ((n + 1 : Nat) : Int) = a + n + 1 from by omega]
    omega
theorem LEN_3 {pl K : Int → Int} {N : Nat} (h : LEN pl K N) {a b : Int} (ha : 0 ≤ a) (hab : a < b) (hb : b ≤ N) (hk : K a = 25 ∨ K a = 46 ∨ (52 ≤ K a ∧ K a ≤ 58)) : pl a + 3 ≤ pl b := by
  have := h.2.2.2 a ha (by omega) hk
  have g := LEN_le h (a := a + 1) (b := b) (by omega) (by omega) hb
  omega
/-- a test's row of the model stays -/
def rowE (τ τ' : ga_S) (j : Int) : Prop := ∀ F, F ∈ tA → τ' F 0 j = τ F 0 j
theorem tRw_keep {σ τ τ' : ga_S} {f a b j : Int} (h : tRw σ τ f a b j) (hr : rowE τ τ' j) (hk : rKeep τ τ') : tRw σ τ' f a b j := by
  obtain ⟨h, hB, hS⟩ := h
  refine ⟨?_, hB, by rw [hr fM_tFirst (by decide)]; exact hS⟩
  unfold tR0 at h ⊢
  rw [hr fM_tForm (by decide), hr fM_tNot (by decide), hr fM_tFirst (by decide), hr fM_tEnd (by decide), hr fM_tThing (by decide), hr fM_tThingRun (by decide), hr fM_tRun (by decide), hr fM_tWay (by decide), hr fM_tOther (by decide), hr fM_tOtherRun (by decide), hr fM_tWhat (by decide)]
  rcases h with h | ⟨h1, h2, h⟩
  · exact Or.inl h
  · refine Or.inr ⟨h1, thE_keep h2 hk rfl, ?_⟩
    rcases h with ⟨g1, g2, g3⟩ | ⟨g1, g2, g3, g4⟩ | ⟨g1, g2, g3, g4, g5⟩ | ⟨g1, g2, g3, g4, g5⟩
    · exact Or.inl ⟨g1, g2, rnR_keep g3 hk rfl⟩
    · exact Or.inr (Or.inl ⟨g1, g2, g3, thE_keep g4 hk rfl⟩)
    · refine Or.inr (Or.inr (Or.inl ⟨g1, g2, rnR_keep g3 hk rfl, g4, ?_⟩))
      rcases g5 with g5 | g5
      · exact Or.inl g5
      · exact Or.inr (rnR_keep g5 hk rfl)
    · exact Or.inr (Or.inr (Or.inr ⟨g1, g2, g3, rnR_keep g4 hk rfl, g5⟩))
/-- what is kept of a test: it may be read again -/
def teR (K : Int → Int) (R : Int) (τ : ga_S) (f : Int) (N : Nat) (a b now j : Int) : Prop := (0 ≤ a ∧ toT K now a b ∧ b ≤ N ∧ 0 ≤ j ∧ j < 1700) ∧ ∀ σ2 : ga_S, σ2 fT_kinds 0 = K → σ2 fR_bad 0 0 = -1 → σ2 fR_runs 0 0 = R → ∀ d, 8 ≤ d → ∃ σ3, c_r_testShape d σ2 a b now = some (0, σ3) ∧ fr tsC σ2 σ3 ∧ σ3 fR_bad 0 0 = -1 ∧ σ3 fR_runs 0 0 = R ∧ rKeepC σ2 σ3 ∧ tRw σ3 τ f a b j ∧ (now = 1 → σ3 fR_form 0 0 ≠ 1 ∧ σ3 fR_form 0 0 ≠ 3)
theorem teR_keep {K : Int → Int} {R : Int} {τ τ' : ga_S} {f : Int} {N : Nat} {a b now j : Int} (h : teR K R τ f N a b now j) (hr : rowE τ τ' j) (hk : rKeep τ τ') : teR K R τ' f N a b now j := by
  refine ⟨h.1, fun σ2 h1 h2 h3 d hd => ?_⟩
  obtain ⟨σ3, e1, e2, e3, e4, e5, e6, e7⟩ := h.2 σ2 h1 h2 h3 d hd
  exact ⟨σ3, e1, e2, e3, e4, e5, tRw_keep e6 hr hk, e7⟩
theorem ENV_0 {σ τ : ga_S} {f : Int} {N : Nat} (h : ENV σ τ f N) {σ' : ga_S} (h1 : σ' fT_kinds 0 = σ fT_kinds 0) : ENV σ' τ f N := by
  unfold ENV at h ⊢
  rw [h1]
  exact h
theorem PR_ok {σ τ : ga_S} {f : Int} {N : Nat} (h : PR σ τ f N) (hb : σ fR_bad 0 0 = -1) : τ fM_isBad 0 0 = 0 ∧ 0 ≤ σ fR_p 0 0 ∧ σ fR_p 0 0 ≤ N ∧ τ fM_at 0 0 = f + σ fR_p 0 0 := by
  rcases h.2 with g | g
  · exact g.2
  · omega
theorem PR_good {σ τ : ga_S} {f : Int} {N : Nat} (h : PR σ τ f N) (hb : τ fM_isBad 0 0 = 0) : σ fR_bad 0 0 = -1 := by
  rcases h.2 with g | g
  · exact g.1
  · omega
/-- a test that was read well may be read again, from any store -/
theorem teR_of {σ τ : ga_S} {f : Int} {N : Nat} (hE : ENV σ τ f N) {a b now : Int} (ha : 0 ≤ a) (hT : toT (σ fT_kinds 0) now a b) (hbN : b ≤ N) (hnow : now = 0 ∨ now = 1) (hτ : τ fM_isBad 0 0 = 0 ∧ τ fM_at 0 0 = f + a) {R : Int} (hJ : 0 ≤ R ∧ R ≤ τ fM_runs 0 0 ∧ 2 * τ fM_runs 0 0 ≤ a + 1 ∧ (σ fT_kinds 0 a = 0 → 2 * τ fM_runs 0 0 ≤ a)) (hj : 0 ≤ τ fM_tCount 0 0 ∧ τ fM_tCount 0 0 < 1700) {d : Nat} (hd : 8 ≤ d) {τ' : ga_S} (hm : c_m_test d τ now = some (0, τ')) (hg : τ' fM_isBad 0 0 = 0) : teR (σ fT_kinds 0) R τ' f N a b now (τ fM_tCount 0 0) := by
  refine ⟨⟨ha, hT, hbN, hj⟩, fun σ2 h1 h2 h3 e he => ?_⟩
  have E2 := ENV_0 hE h1
  obtain ⟨σ', τ'', c1, m1, X, XN⟩ := P_test E2 h2 ha (by rw [h1]; exact hT) hbN hnow hτ (by rw [h3, h1]; exact hJ) hj (d := e) he
  have e1 := (am_mono (e := d + e) m1 (by omega)).symm.trans (am_mono (e := d + e) hm (by omega))
  have e2 : τ'' = τ' := by injection e1 with z; injection z
  subst e2
  have hb := PR_good X.1 hg
  have X2 := X.2.2.2.2.2.2.2.2.2 hb
  exact ⟨σ', c1, X.2.2.1, hb, X.2.2.2.2.1.trans h3, X.2.2.2.2.2.1, X2.2, fun hn => XN hn hb⟩
/-- the component looks for a test's end -/
theorem s_r_ta_29 {σ : ga_S} {d : Nat} (hd : 1 ≤ d) (a : Int) {b : Int} (hb : b ≤ 5001) (hE : endT 0 (σ fT_kinds 0 b)) : ∀ (n : Nat) (k : Int), 0 ≤ k → k + n = b → (∀ q, k ≤ q → q < b → ¬ endT 0 (σ fT_kinds 0 q)) → r_testsAhead_29 d σ a k = r_testsAhead_95 d σ a b := by
  intro n
  induction n with
  | zero =>
    intro k h0 hk _
    have : k = b := by omega
    subst this
    have is := fun c => s_r_is (σ := σ) hd (k := k) ⟨h0, by omega⟩ c
    rw [e_r_testsAhead_29, is]
    simp only [Option.bind_some]
    by_cases c1 : σ fT_kinds 0 k = 25
    · rw [decide_eq_true c1, if_neg b2i_n]
    · rw [decide_eq_false c1, if_pos b2i_f, is]
      simp only [Option.bind_some]
      by_cases c2 : σ fT_kinds 0 k = 3
      · rw [decide_eq_true c2, if_neg b2i_n]
      · rw [decide_eq_false c2, if_pos b2i_f, is]
        simp only [Option.bind_some]
        by_cases c3 : σ fT_kinds 0 k = 6
        · rw [decide_eq_true c3, if_neg b2i_n]
        · rw [decide_eq_false c3, if_pos b2i_f, is]
          simp only [Option.bind_some]
          by_cases c4 : σ fT_kinds 0 k = 5
          · rw [decide_eq_true c4, if_neg b2i_n]
          · rw [decide_eq_false c4, if_pos b2i_f, is]
            simp only [Option.bind_some]
            have c5 : σ fT_kinds 0 k = 8 := by unfold endT at hE; omega
            rw [decide_eq_true c5, if_neg b2i_n]
  | succ n ih =>
    intro k h0 hk hq
    have is := fun c => s_r_is (σ := σ) hd (k := k) ⟨h0, by omega⟩ c
    have no := hq k (Int.le_refl _) (by omega)
    unfold endT at no
    rw [e_r_testsAhead_29, is]
    simp only [Option.bind_some]
    rw [decide_eq_false (p := σ fT_kinds 0 k = 25) (by omega), if_pos b2i_f, is]
    simp only [Option.bind_some]
    rw [decide_eq_false (p := σ fT_kinds 0 k = 3) (by omega), if_pos b2i_f, is]
    simp only [Option.bind_some]
    rw [decide_eq_false (p := σ fT_kinds 0 k = 6) (by omega), if_pos b2i_f, is]
    simp only [Option.bind_some]
    rw [decide_eq_false (p := σ fT_kinds 0 k = 5) (by omega), if_pos b2i_f, is]
    simp only [Option.bind_some]
    rw [decide_eq_false (p := σ fT_kinds 0 k = 8) (by omega), if_pos b2i_f, w32_ok (by omega)]
    exact ih (k + 1) (by omega) (by omega) (fun q h1 h2 => hq q (by omega) h2)
def teC : List Nat := fR_tests :: fR_testFrom :: fR_testTo :: tsC

def teM' : List Nat := fM_tShown :: tsM
/-- what tests leave -/
def teX (σ σ' τ τ' : ga_S) (f : Int) (N : Nat) (pl : Int → Int) (c : Int) : Prop := PR σ' τ' f N ∧ JR σ' τ' ∧ fr teC σ σ' ∧ fr teM' τ τ' ∧ σ' fR_runs 0 0 = σ fR_runs 0 0 ∧ rKeepC σ σ' ∧ rKeep τ τ' ∧ (∀ j, j < τ fM_tCount 0 0 → rowE τ τ' j) ∧ (τ fM_tCount 0 0 ≤ τ' fM_tCount 0 0 ∧ τ' fM_tCount 0 0 ≤ 1667) ∧ (∀ i, i < σ fR_tests 0 0 → σ' fR_testFrom 0 i = σ fR_testFrom 0 i ∧ σ' fR_testTo 0 i = σ fR_testTo 0 i) ∧ (σ' fR_bad 0 0 = -1 → σ' fR_tests 0 0 = τ' fM_tCount 0 0 ∧ τ' fM_tShown 0 0 = τ' fM_tCount 0 0 ∧ 3 * τ' fM_tCount 0 0 + c ≤ pl (σ' fR_p 0 0) + 3 ∧ τ fM_tCount 0 0 < τ' fM_tCount 0 0 ∧ σ fR_p 0 0 ≤ σ' fR_p 0 0 ∧ ∀ i, σ fR_tests 0 0 ≤ i → i < σ' fR_tests 0 0 → teR (σ fT_kinds 0) (σ fR_runs 0 0) τ' f N (σ' fR_testFrom 0 i) (σ' fR_testTo 0 i) 0 i ∧ σ fR_p 0 0 ≤ σ' fR_testFrom 0 i)
theorem te_loop {f : Int} {N : Nat} {pl : Int → Int} {c : Int} (hc : 0 ≤ c) {d : Nat} (hd : 8 ≤ d) : ∀ (n : Nat) (σ τ : ga_S), ENV σ τ f N → PR σ τ f N → JR σ τ → σ fR_bad 0 0 = -1 → (N : Int) - σ fR_p 0 0 < n → LEN pl (σ fT_kinds 0) N → 3 * τ fM_tCount 0 0 + c ≤ pl (σ fR_p 0 0) → σ fR_tests 0 0 = τ fM_tCount 0 0 → 0 ≤ τ fM_tCount 0 0 → ∃ σ' τ', r_testsAhead_29 d σ (σ fR_p 0 0) (σ fR_p 0 0) = some (0, σ') ∧ (c_m_test d τ 0).bind (fun q => m_tests_5 d q.2) = some (0, τ') ∧ teX σ σ' τ τ' f N pl c := by
  intro n
  induction n with
  | zero =>
    intro σ τ hE hP hJ hb hn
    have := PR_ok hP hb
    omega
  | succ n ih =>
    intro σ τ hE hP hJ hb hn hL h3 hte h0
    have hf := hE.1
    have hN := hE.2.1
    have hN5 := hE.2.2.1
    have ok := PR_ok hP hb
    obtain ⟨a, ea⟩ : ∃ a, a = σ fR_p 0 0 := ⟨_, rfl⟩
    rw [← ea] at ok hn h3
    obtain ⟨b, hT, hbN⟩ := toT_ex hE 0 (a := a) ok.2.1 ok.2.2.1
    have hab := hT.1
    obtain ⟨j, ej⟩ : ∃ j, j = τ fM_tCount 0 0 := ⟨_, rfl⟩
    rw [← ej] at h3 hte h0
    have plN := LEN_le hL ok.2.1 ok.2.2.1 (Int.le_refl _)
    have plb := LEN_le hL ok.2.1 hab hbN
    have pl5 := hL.2.1
    have hj : 0 ≤ τ fM_tCount 0 0 ∧ τ fM_tCount 0 0 < 1700 := by rw [← ej]; omega
    have J' := hJ.2.2.2 hb
    rw [← ea] at J'
    have hJ4 : 0 ≤ σ fR_runs 0 0 ∧ σ fR_runs 0 0 ≤ τ fM_runs 0 0 ∧ 2 * τ fM_runs 0 0 ≤ a + 1 ∧ (σ fT_kinds 0 a = 0 → 2 * τ fM_runs 0 0 ≤ a) := ⟨hJ.1, hJ.2.1, J'.1, J'.2⟩
    obtain ⟨σ1, τ1, c1, m1, X, _⟩ := P_test hE hb ok.2.1 hT hbN (Or.inl rfl) ⟨ok.1, ok.2.2.2⟩ hJ4 hj hd
    obtain ⟨X1, X2, X3, X4, X5, X6, X7, X8, X9, X10⟩ := X
    rw [← ej] at X8 X9 X10
    have t1 : σ1 fR_tests 0 0 = j := by rw [X3 _ (by decide)]; exact hte
    have k1 : σ1 fT_kinds = σ fT_kinds := X3 _ (by decide)
    have E1 : ENV σ1 τ1 f N := ENV_c hE k1 (X4 _ (by decide))
    have rE : ∀ i, i < j → rowE τ τ1 i := fun i hi F hF => X8 F hF i (by omega)
    rw [← ea, s_r_ta_29 (by omega) a (by omega) hT.2.1 (b - a).toNat a ok.2.1 (by omega) hT.2.2, e_r_testsAhead_95, c1, m1]
    simp only [Option.bind_some]
    rw [t1, ck_ok _ ⟨h0, by omega⟩, ck_ok _ ⟨h0, by omega⟩, w32_ok (by omega)]
    obtain ⟨σ2, e2⟩ : ∃ x, x = ga_up (ga_up (ga_up σ1 fR_testFrom 0 j a) fR_testTo 0 j b) fR_tests 0 0 (j + 1) := ⟨_, rfl⟩
    rw [← e2]
    have f2 : fr [fR_testFrom, fR_testTo, fR_tests] σ1 σ2 := by rw [e2]; exact fr_trans (fr_trans (fr_u (by decide)) (fr_u (by decide))) (fr_u (by decide))
    have P2 : PR σ2 τ1 f N := PR_c X1 (f2 _ (by decide)) (f2 _ (by decide)) rfl rfl rfl
    have E2 : ENV σ2 τ1 f N := ENV_c E1 (f2 _ (by decide)) rfl
    have J2 : JR σ2 τ1 := JR_n X2 (n := σ1 fR_runs 0 0) X2.1 (Int.le_refl _) (by rw [f2 _ (by decide)]) (by rw [f2 _ (by decide)]) (by rw [f2 _ (by decide)]) (f2 _ (by decide))
    have T2 : σ2 fR_tests 0 0 = j + 1 := by rw [e2, up_eq]
    have F2 : ∀ i, i < j → σ2 fR_testFrom 0 i = σ fR_testFrom 0 i ∧ σ2 fR_testTo 0 i = σ fR_testTo 0 i := fun i hi => by
      rw [e2]
      constructor
      · rw [up_F (by decide), up_F (by decide), up_j (by omega), X3 _ (by decide)]
      · rw [up_F (by decide), up_j (by omega), up_F (by decide), X3 _ (by decide)]
    have F2j : σ2 fR_testFrom 0 j = a ∧ σ2 fR_testTo 0 j = b := by
      rw [e2]
      constructor
      · rw [up_F (by decide), up_F (by decide), up_eq]
      · rw [up_F (by decide), up_eq]
    have b2 : σ2 fR_bad 0 0 = σ1 fR_bad 0 0 := by rw [f2 _ (by decide)]
    have fr2 : fr teC σ σ2 := fr_trans (fr_sub X3 (by decide)) (fr_sub f2 (by decide))
    have K2 : σ2 fT_kinds = σ fT_kinds := fr2 _ (by decide)
    have rK2 : rKeepC σ σ2 := fun i hi => by rw [f2 fR_runFrom (by decide), f2 fR_runTo (by decide)]; exact X6 i hi
    have r2 : σ2 fR_runs 0 0 = σ fR_runs 0 0 := by rw [f2 _ (by decide)]; exact X5
    by_cases cb : σ1 fR_bad 0 0 = -1
    · obtain ⟨pb, row⟩ := X10 cb
      have p2 : σ2 fR_p 0 0 = b := by rw [f2 _ (by decide)]; exact pb
      have ok1 := PR_ok X1 cb
      have tr : teR (σ fT_kinds 0) (σ fR_runs 0 0) τ1 f N a b 0 j := by
        have := teR_of hE ok.2.1 hT hbN (Or.inl rfl) ⟨ok.1, ok.2.2.2⟩ hJ4 hj hd m1 ok1.1
        rw [← ej] at this
        exact this
      rw [if_pos cb, up_id (F := fR_p) (σ := σ2) p2, e_r_testsAhead_148, s_r_takes E2 P2 (by omega), e_m_tests_5, s_nx E2 P2 (by omega) (c := 25) (by decide) (by decide)]
      simp only [Option.bind_some]
      rw [b2, p2]
      by_cases ck : σ1 fR_bad 0 0 = -1 ∧ σ2 fT_kinds 0 b = 25
      · obtain ⟨P3, lt3, at3⟩ := PR_1 E2 P2 (c := 25) (by rw [b2, p2]; exact ck) (by decide) (by decide)
        rw [p2] at P3 lt3 at3
        rw [decide_eq_true ck, if_pos ck, if_neg b2i_n, w32_ok (by omega)]
        obtain ⟨σ3, e3⟩ : ∃ x, x = ga_up σ2 fR_p 0 0 (b + 1) := ⟨_, rfl⟩
        obtain ⟨τ3, g3⟩ : ∃ x, x = ga_up τ1 fM_at 0 0 (τ1 fM_at 0 0 + 1) := ⟨_, rfl⟩
        rw [← e3, ← g3] at P3 ⊢
        have f3 : fr [fR_p] σ2 σ3 := by rw [e3]; exact fr_u (by decide)
        have m3 : fr [fM_at] τ1 τ3 := by rw [g3]; exact fr_u (by decide)
        have p3 : σ3 fR_p 0 0 = b + 1 := by rw [e3, up_eq]
        have E3 : ENV σ3 τ3 f N := ENV_c E2 (f3 _ (by decide)) (m3 _ (by decide))
        have J3 : JR σ3 τ3 := JR_mv J2 (by rw [f3 _ (by decide)]) (by rw [m3 _ (by decide)]) (f3 _ (by decide)) (fun _ => ⟨by rw [b2]; exact cb, Or.inr (by rw [p2, p3]; omega)⟩)
        have b3 : σ3 fR_bad 0 0 = -1 := by rw [f3 _ (by decide), b2]; exact cb
        have K3 : σ3 fT_kinds = σ fT_kinds := (f3 _ (by decide)).trans K2
        have j3 : τ3 fM_tCount 0 0 = j + 1 := by rw [m3 _ (by decide)]; exact X9
        have pl3 := LEN_3 hL (a := b) (b := b + 1) (by omega) (by omega) (by omega) (Or.inl (by rw [← K2]; exact ck.2))
        have t3 : σ3 fR_tests 0 0 = j + 1 := by rw [f3 _ (by decide)]; exact T2
        obtain ⟨σ', τ', c4, m4, Y⟩ := ih σ3 τ3 E3 P3 J3 b3 (by rw [p3]; omega) (by rw [K3]; exact hL) (by rw [j3, p3]; omega) (by rw [j3, t3]) (by rw [j3]; omega)
        obtain ⟨Y1, Y2, Y3, Y4, Y5, Y6, Y7, Y8, Y9, Y10, Y11⟩ := Y
        have rK3 : rKeepC σ3 σ' := Y6
        have m14 : r_testsAhead_14 d σ3 (b2i true) = some (0, σ') := by
          rw [e_r_testsAhead_14, if_neg b2i_n]; exact c4
        refine ⟨σ', τ', m14, m4, Y1, Y2, fr_trans (fr_trans fr2 (fr_sub f3 (by decide))) Y3, fr_trans (fr_trans (fr_sub X4 (by decide)) (fr_sub m3 (by decide))) Y4, ?_, ?_, ?_, ?_, ?_, ?_, ?_⟩
        · rw [Y5, f3 _ (by decide)]; exact r2
        · exact rKeepC_trans rK2 (by rw [r2]; exact Int.le_refl _) (rKeepC_trans (rKeepC_eq (f3 _ (by decide)) (f3 _ (by decide))) (by rw [f3 _ (by decide)]; exact Int.le_refl _) Y6)
        · exact rKeep_trans X7 (rKeep_trans (rKeep_eq (m3 _ (by decide)) (m3 _ (by decide)) (m3 _ (by decide))) Y7)
        · intro i hi F hF
          rw [← ej] at hi
          rw [Y8 i (by rw [j3]; omega) F hF, m3 F (mem_no (L := tA) (by decide) F hF)]
          exact rE i hi F hF
        · rw [j3] at Y9; omega
        · intro i hi
          rw [hte] at hi
          have := Y10 i (by rw [t3]; omega)
          rw [this.1, this.2, f3 _ (by decide), f3 _ (by decide)]
          exact F2 i hi
        · intro hb'
          obtain ⟨Z1, Z2, Z3, Z4, Z0, Z5⟩ := Y11 hb'
          refine ⟨Z1, Z2, Z3, by rw [j3] at Z4; omega, by rw [p3] at Z0; omega, fun i h1 h2 => ?_⟩
          rw [hte] at h1
          rw [K3, t3, f3 fR_runs (by decide), r2, p3] at Z5
          by_cases ci : i = j
          · subst ci
            have := Y10 i (by rw [t3]; omega)
            rw [this.1, this.2, f3 fR_testFrom (by decide), f3 fR_testTo (by decide), F2j.1, F2j.2]
            exact ⟨teR_keep tr (fun F hF => by rw [Y8 i (by rw [j3]; omega) F hF, m3 F (mem_no (L := tA) (by decide) F hF)]) (rKeep_trans (rKeep_eq (m3 _ (by decide)) (m3 _ (by decide)) (m3 _ (by decide))) Y7), by omega⟩
          · have z := Z5 i (by omega) h2
            exact ⟨z.1, by omega⟩
      · rw [decide_eq_false ck, if_neg ck, if_pos b2i_f, X9]
        obtain ⟨τ3, g3⟩ : ∃ x, x = ga_up τ1 fM_tShown 0 0 (j + 1) := ⟨_, rfl⟩
        rw [← g3]
        have m3 : fr [fM_tShown] τ1 τ3 := by rw [g3]; exact fr_u (by decide)
        refine ⟨σ2, τ3, by rw [e_r_testsAhead_14, if_pos b2i_f], rfl, PR_c P2 rfl rfl (m3 _ (by decide)) (m3 _ (by decide)) (m3 _ (by decide)), JR_mv J2 rfl (by rw [m3 _ (by decide)]) rfl (fun z => ⟨z, Or.inl rfl⟩), fr2, fr_trans (fr_sub X4 (by decide)) (fr_sub m3 (by decide)), r2, rK2, rKeep_trans X7 (rKeep_eq (m3 _ (by decide)) (m3 _ (by decide)) (m3 _ (by decide))), ?_, ?_, ?_, ?_⟩
        · intro i hi F hF
          rw [← ej] at hi
          rw [m3 F (mem_no (L := tA) (by decide) F hF)]
          exact rE i hi F hF
        · rw [m3 _ (by decide), X9, ← ej]; omega
        · intro i hi
          rw [hte] at hi
          exact F2 i hi
        · intro _
          have j3 : τ3 fM_tCount 0 0 = j + 1 := by rw [m3 _ (by decide)]; exact X9
          rw [j3, T2, p2, hte]
          refine ⟨rfl, by rw [g3, up_eq], by omega, by omega, by omega, fun i h1 h2 => ?_⟩
          have ci : i = j := by omega
          subst ci
          rw [F2j.1, F2j.2]
          exact ⟨teR_keep tr (fun F hF => by rw [m3 F (mem_no (L := tA) (by decide) F hF)]) (rKeep_eq (m3 _ (by decide)) (m3 _ (by decide)) (m3 _ (by decide))), by omega⟩
    · have cn : ¬ (σ2 fR_bad 0 0 = -1 ∧ σ2 fT_kinds 0 (σ2 fR_p 0 0) = 25) := fun z => cb (by rw [← b2]; exact z.1)
      rw [if_neg cb, e_r_testsAhead_148, s_r_takes E2 P2 (by omega), e_m_tests_5, s_nx E2 P2 (by omega) (c := 25) (by decide) (by decide)]
      simp only [Option.bind_some]
      rw [decide_eq_false cn, if_neg cn, if_pos b2i_f, X9]
      obtain ⟨τ3, g3⟩ : ∃ x, x = ga_up τ1 fM_tShown 0 0 (j + 1) := ⟨_, rfl⟩
      rw [← g3]
      have m3 : fr [fM_tShown] τ1 τ3 := by rw [g3]; exact fr_u (by decide)
      refine ⟨σ2, τ3, by rw [e_r_testsAhead_14, if_pos b2i_f], rfl, PR_c P2 rfl rfl (m3 _ (by decide)) (m3 _ (by decide)) (m3 _ (by decide)), JR_mv J2 rfl (by rw [m3 _ (by decide)]) rfl (fun z => ⟨z, Or.inl rfl⟩), fr2, fr_trans (fr_sub X4 (by decide)) (fr_sub m3 (by decide)), r2, rK2, rKeep_trans X7 (rKeep_eq (m3 _ (by decide)) (m3 _ (by decide)) (m3 _ (by decide))), ?_, ?_, ?_, ?_⟩
      · intro i hi F hF
        rw [← ej] at hi
        rw [m3 F (mem_no (L := tA) (by decide) F hF)]
        exact rE i hi F hF
      · rw [m3 _ (by decide), X9, ← ej]; omega
      · intro i hi
        rw [hte] at hi
        exact F2 i hi
      · intro z
        exact absurd (by rw [← b2]; exact z) cb

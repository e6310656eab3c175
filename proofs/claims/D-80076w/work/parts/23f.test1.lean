/-! a test: its end, a saying -/
def endT (now k : Int) : Prop := k = 3 ∨ k = 5 ∨ k = 8 ∨ (now = 0 ∧ (k = 25 ∨ k = 6))
def endB (now k : Int) : Bool := decide (k = 3 ∨ k = 5 ∨ k = 8 ∨ (now = 0 ∧ (k = 25 ∨ k = 6)))
/-- the tokens from a up to b are all of a test (or of what stands behind now), b ends it -/
def toT (K : Int → Int) (now a b : Int) : Prop := a ≤ b ∧ endT now (K b) ∧ ∀ q, a ≤ q → q < b → ¬ endT now (K q)
theorem s_m_endsTest {τ : ga_S} {d : Nat} (hd : 1 ≤ d) {k : Int} (hk : 0 ≤ k ∧ k < 64) (now : Int) : c_m_endsTest d τ (cdM k) now = some (b2i (endB now k), τ) := by
  obtain ⟨d, rfl⟩ : ∃ e, d = e + 1 := ⟨d - 1, by omega⟩
  have y := e_m_endsTest_33 d τ
  have i3 : cdM k = 46 ↔ k = 3 := cdM_inj (b := 3) hk (by omega)
  have i5 : cdM k = 59 ↔ k = 5 := cdM_inj (b := 5) hk (by omega)
  have i8 : cdM k = 1 ↔ k = 8 := cdM_inj (b := 8) hk (by omega)
  have i25 : cdM k = 116 ↔ k = 25 := cdM_inj (b := 25) hk (by omega)
  have i6 : cdM k = 58 ↔ k = 6 := cdM_inj (b := 6) hk (by omega)
  rw [e_m_endsTest]
  unfold endB
  by_cases c1 : k = 3
  · rw [if_pos (i3.mpr c1), y, decide_eq_true (Or.inl c1)]; rfl
  · rw [if_neg (fun z => c1 (i3.mp z))]
    by_cases c2 : k = 5
    · rw [if_pos (i5.mpr c2), y, decide_eq_true (Or.inr (Or.inl c2))]; rfl
    · rw [if_neg (fun z => c2 (i5.mp z))]
      by_cases c3 : k = 8
      · rw [if_pos (i8.mpr c3), y, decide_eq_true (Or.inr (Or.inr (Or.inl c3)))]; rfl
      · rw [if_neg (fun z => c3 (i8.mp z))]
        by_cases c4 : now = 0
        · rw [if_pos c4]
          by_cases c5 : k = 25
          · rw [if_pos (i25.mpr c5), y, decide_eq_true (Or.inr (Or.inr (Or.inr ⟨c4, Or.inl c5⟩)))]; rfl
          · rw [if_neg (fun z => c5 (i25.mp z))]
            by_cases c6 : k = 6
            · rw [if_pos (i6.mpr c6), y, decide_eq_true (Or.inr (Or.inr (Or.inr ⟨c4, Or.inr c6⟩)))]; rfl
            · rw [if_neg (fun z => c6 (i6.mp z)), decide_eq_false (by omega)]; rfl
        · rw [if_neg c4, decide_eq_false (by omega)]; rfl
def tA : List Nat := [fM_tFirst, fM_tNot, fM_tForm, fM_tThing, fM_tThingRun, fM_tRun, fM_tWhat, fM_tWay, fM_tOther, fM_tOtherRun, fM_tEnd]
/-- rows of tests other than j stay -/
def tKeep (τ τ' : ga_S) (j : Int) : Prop := ∀ F, F ∈ tA → ∀ i, i ≠ j → τ' F 0 i = τ F 0 i
theorem tKeep_refl (τ : ga_S) (j : Int) : tKeep τ τ j := fun _ _ _ _ => rfl
theorem tKeep_trans {τ τ1 τ2 : ga_S} {j : Int} (h : tKeep τ τ1 j) (h2 : tKeep τ1 τ2 j) : tKeep τ τ2 j := fun F hF i hi => (h2 F hF i hi).trans (h F hF i hi)
theorem tKeep_u {τ : ga_S} {j v : Int} {G : Nat} : tKeep τ (ga_up τ G 0 j v) j := fun _ _ _ hi => up_j hi ..
theorem tKeep_f {τ τ' : ga_S} {j : Int} {L : List Nat} (h : fr L τ τ') (hL : ∀ F, F ∈ tA → F ∉ L) : tKeep τ τ' j := fun F hF i _ => by rw [h F (hL F hF)]
theorem mem_no {L M : List Nat} (h : L.all (fun F => !(M.contains F)) = true) : ∀ F, F ∈ L → F ∉ M := by
  intro F hF hM
  have := List.all_eq_true.mp h F hF
  simp at this
  exact this hM
def teM : List Nat := [fM_at, fM_isBad, fM_badAt, fM_tEnd, fM_tCount]
theorem s_r_528 {σ : ga_S} {d : Nat} (hd : 2 ≤ d) (hb : σ fR_bad 0 0 ≠ -1) (t : Int) : r_testShape_528 d σ t = some (0, σ) := by
  rw [e_r_testShape_528, cb_end (by omega) hb]; rfl
theorem mb_351 {τ : ga_S} {d : Nat} (hb : τ fM_isBad 0 0 = 1) (hj : 0 ≤ τ fM_tCount 0 0 ∧ τ fM_tCount 0 0 < 1700) (now : Int) : m_test_351 d τ now = some (0, ga_up (ga_up τ fM_tEnd 0 (τ fM_tCount 0 0) (τ fM_at 0 0)) fM_tCount 0 0 (τ fM_tCount 0 0 + 1)) := by
  rw [e_m_test_351, ck_ok _ hj, if_neg (by omega), e_m_test_392, up_F (F' := fM_tCount) (by decide), w32_ok (by omega)]
/-- the end of a test -/
theorem T_end {σ τ : ga_S} {f : Int} {N : Nat} (hE : ENV σ τ f N) (h : PR σ τ f N) {d : Nat} (hd : 2 ≤ d) {now b : Int} (hT : ∀ q, q < b → σ fR_p 0 0 ≤ q → ¬ endT now (σ fT_kinds 0 q)) (hTb : endT now (σ fT_kinds 0 b)) (hp : σ fR_bad 0 0 = -1 → σ fR_p 0 0 ≤ b) (hj : 0 ≤ τ fM_tCount 0 0 ∧ τ fM_tCount 0 0 < 1700) : ∃ σ' τ', r_testShape_528 d σ b = some (0, σ') ∧ m_test_351 d τ now = some (0, τ') ∧ PR σ' τ' f N ∧ fr pcL σ σ' ∧ fr teM τ τ' ∧ tKeep τ τ' (τ fM_tCount 0 0) ∧ τ' fM_tCount 0 0 = τ fM_tCount 0 0 + 1 ∧ τ' fM_tEnd 0 (τ fM_tCount 0 0) = τ fM_at 0 0 ∧ (σ' fR_bad 0 0 = -1 → σ fR_bad 0 0 = -1 ∧ σ fR_p 0 0 = b ∧ σ' fR_p 0 0 = b) := by
  have hf := hE.1
  have hN := hE.2.1
  have hR := h.1
  by_cases cb : σ fR_bad 0 0 = -1
  · have ok := h.2.resolve_right (fun z => by omega)
    have k := hE.2.2.2.1 _ ok.2.2.1 ok.2.2.2.1
    have hpb := hp cb
    obtain ⟨d, rfl⟩ : ∃ e, d = e + 1 := ⟨d - 1, by omega⟩
    rw [e_r_testShape_528, e_r_end, if_pos cb, e_m_test_351, ck_ok _ hj, if_pos ok.2.1, ok.2.2.2.2, ck_ok _ (by omega), k.2.2, s_m_endsTest (by omega) ⟨k.1, k.2.1⟩]
    simp only [Option.bind_some]
    by_cases c : σ fR_p 0 0 = b
    · have eB : endB now (σ fT_kinds 0 (σ fR_p 0 0)) = true := by rw [c]; exact decide_eq_true hTb
      rw [if_pos c, eB, if_neg b2i_n, e_m_test_392, up_F (F' := fM_tCount) (by decide), w32_ok (by omega)]
      refine ⟨σ, _, rfl, rfl, ?_, fr_refl _ _, fr_trans (fr_u (by decide)) (fr_u (by decide)), ?_, ?_, ?_, fun _ => ⟨cb, c, c⟩⟩
      · exact PR_c h rfl rfl (by rw [up_F (by decide), up_F (by decide)]) (by rw [up_F (by decide), up_F (by decide)]) (by rw [up_F (by decide), up_F (by decide)])
      · exact tKeep_trans tKeep_u (tKeep_f (L := [fM_tCount]) (fr_u (by decide)) (mem_no (by decide)))
      · rw [up_eq]
      · rw [up_F (by decide), up_eq]
    · have eB : endB now (σ fT_kinds 0 (σ fR_p 0 0)) = false := decide_eq_false (hT _ (by omega) (Int.le_refl _))
      have P1 : PR σ (ga_up τ fM_tEnd 0 (τ fM_tCount 0 0) (f + σ fR_p 0 0)) f N := PR_c h rfl rfl (up_F (by decide) ..) (up_F (by decide) ..) (up_F (by decide) ..)
      obtain ⟨σ', τ', e1, e2, e3, e4, e5, e6⟩ := P_wrong P1 (d := d + 1) (by omega)
      have e1' : c_r_wrong d σ = some (0, σ') := by
        have a := s_r_wrong (σ := σ) (d := d) (by omega)
        have b := s_r_wrong (σ := σ) (d := d + 1) (by omega)
        rw [a, ← b]; exact e1
      rw [if_neg c, eB, if_pos b2i_f, e1', e2]
      simp only [Option.bind_some]
      rw [e_m_test_392, e6 fM_tCount (by decide), up_F (F' := fM_tCount) (by decide), w32_ok (by omega)]
      refine ⟨σ', _, rfl, rfl, ?_, e5, ?_, ?_, ?_, ?_, fun z => absurd z e4⟩
      · exact PR_c e3 rfl rfl (by rw [up_F (by decide)]) (by rw [up_F (by decide)]) (by rw [up_F (by decide)])
      · exact fr_trans (fr_trans (fr_u (by decide)) (fr_sub e6 (by decide))) (fr_u (by decide))
      · exact tKeep_trans (tKeep_trans tKeep_u (tKeep_f e6 (mem_no (by decide)))) (tKeep_f (L := [fM_tCount]) (fr_u (by decide)) (mem_no (by decide)))
      · rw [up_eq]
      · rw [up_F (by decide), e6 _ (by decide), up_eq]
  · have bad := h.2.resolve_left (fun z => cb z.1)
    rw [s_r_528 hd cb, mb_351 bad.2.2.1 hj]
    refine ⟨σ, _, rfl, rfl, ?_, fr_refl _ _, fr_trans (fr_u (by decide)) (fr_u (by decide)), ?_, ?_, ?_, fun z => absurd z cb⟩
    · exact PR_c h rfl rfl (by rw [up_F (by decide), up_F (by decide)]) (by rw [up_F (by decide), up_F (by decide)]) (by rw [up_F (by decide), up_F (by decide)])
    · exact tKeep_trans tKeep_u (tKeep_f (L := [fM_tCount]) (fr_u (by decide)) (mem_no (by decide)))
    · rw [up_eq]
    · rw [up_F (by decide), up_eq]
/-- the first is from a place on -/
def qI (K : Int → Int) (b k : Int) : Int := sk (fun q => decide (¬ K q = 13)) b k
theorem s_r_ts_22 {σ : ga_S} {d : Nat} (hd : 1 ≤ d) (a now : Int) {b : Int} (hb : b ≤ 5001) : ∀ k, 0 ≤ k → k ≤ b → r_testShape_22 d σ a b now k = r_testShape_46 d σ a b now (qI (σ fT_kinds 0) b k) := by
  refine rg_ind (n := b) ?_ ?_
  · intro k h h0 h1
    rw [e_r_testShape_22, if_neg (by omega)]; unfold qI; rw [sk_n h]
  · intro k h ih h0 h1
    rw [e_r_testShape_22, if_pos h, s_r_is hd ⟨h0, by omega⟩]
    simp only [Option.bind_some]
    unfold qI at ih ⊢
    by_cases c : σ fT_kinds 0 k = 13
    · rw [decide_eq_true c, if_neg b2i_n, sk_x h (by simp [c])]
    · rw [decide_eq_false c, if_pos b2i_f, w32_ok (by omega), ih (by omega) (by omega), sk_s h (by simp [c])]
theorem s_m_t_13 {σ τ : ga_S} {f : Int} {N : Nat} (hE : ENV σ τ f N) {d : Nat} (hd : 1 ≤ d) (t : Int) {now b : Int} (hb : b ≤ N) : ∀ k, 0 ≤ k → k ≤ b → (∀ q, k ≤ q → q < b → ¬ endT now (σ fT_kinds 0 q)) → ∀ g : Bool, m_test_13 d τ now t (b2i g) (f + k) = m_test_13 d τ now t (b2i (g || decide (qI (σ fT_kinds 0) b k < b))) (f + b) := by
  have hf := hE.1
  have hN := hE.2.1
  refine rg_ind (n := b) ?_ ?_
  · intro k h h0 h1 _ g
    have e : k = b := by omega
    subst e
    unfold qI; rw [sk_n (Int.le_refl _), decide_eq_false (by omega), Bool.or_false]
  · intro k h ih h0 h1 hT g
    have ih := ih (by omega) (by omega) (fun q a b => hT q (by omega) b)
    have k' := hE.2.2.2.1 k h0 (by omega)
    have eB : endB now (σ fT_kinds 0 k) = false := decide_eq_false (hT k (Int.le_refl _) h)
    have i : τ fM_token 0 (f + k) = 104 ↔ σ fT_kinds 0 k = 13 := ENV_is hE h0 (by omega) (c := 13) (by omega)
    have nx : ∀ g' : Bool, m_test_49 d τ now t (f + k) (b2i g') = m_test_13 d τ now t (b2i (g' || decide (qI (σ fT_kinds 0) b (k + 1) < b))) (f + b) := by
      intro g'
      rw [e_m_test_49, w32_ok (by omega), show f + k + 1 = f + (k + 1) by omega, ih g']
    have n1 := nx true
    have n0 := nx false
    rw [b2i_t] at n1
    rw [b2i_f] at n0
    rw [e_m_test_13, ck_ok _ (by omega), k'.2.2, s_m_endsTest hd ⟨k'.1, k'.2.1⟩]
    simp only [Option.bind_some]
    rw [eB, if_pos b2i_f]
    unfold qI at n1 n0 ⊢
    cases g with
    | true => rw [if_neg b2i_n, e_m_test_44, n1]; simp
    | false =>
      rw [if_pos b2i_f, ck_ok _ (by omega)]
      by_cases c : σ fT_kinds 0 k = 13
      · rw [if_pos (i.mpr c), e_m_test_44, n1, sk_x h (by simp [c]), decide_eq_true h]; simp
      · rw [if_neg (fun z => c (i.mp z)), n0, sk_s (p := k) h (by simp [c])]
/-- words of a saying -/
def sF (k : Int) : Bool := decide (k = 0 ∨ (9 ≤ k ∧ k ≤ 12) ∨ k = 63 ∨ k = 62)
theorem s_r_ts_57 {σ : ga_S} {d : Nat} (hd : 1 ≤ d) (a : Int) {b : Int} (hb : b ≤ 5001) (hk : ∀ q, 0 ≤ q → q < b → 0 ≤ σ fT_kinds 0 q) : ∀ p, 0 ≤ p → p ≤ b → r_testShape_57 d (ga_up σ fR_p 0 0 p) a b = r_testShape_135 d (ga_up σ fR_p 0 0 (sk (fun q => sF (σ fT_kinds 0 q)) b p)) a b := by
  refine rg_ind (n := b) ?_ ?_
  · intro p h h0 h1
    rw [e_r_testShape_57, up_eq, if_neg (by omega), sk_n h]
  · intro p h ih h0 h1
    have nx : r_testShape_122 d (ga_up σ fR_p 0 0 p) a b = r_testShape_135 d (ga_up σ fR_p 0 0 (sk (fun q => sF (σ fT_kinds 0 q)) b (p + 1))) a b := by
      rw [e_r_testShape_122, up_eq, up_up, w32_ok (by omega), ih (by omega) (by omega)]
    have kk : (ga_up σ fR_p 0 0 p) fT_kinds = σ fT_kinds := up_F (by decide) ..
    rw [e_r_testShape_57, up_eq, if_pos h, s_r_isFree hd ⟨h0, by omega⟩]
    simp only [Option.bind_some]
    rw [kk, up_eq]
    by_cases c1 : σ fT_kinds 0 p = 0
    · rw [decide_eq_true c1, if_neg b2i_n, nx, sk_s (f := fun q => sF (σ fT_kinds 0 q)) (p := p) h (decide_eq_true (Or.inl c1))]
    · rw [decide_eq_false c1, if_pos b2i_f, ck_ok _ (by omega), nn_ok _ (hk p h0 h), s_k_isArticle hd]
      simp only [Option.bind_some]
      by_cases c2 : 9 ≤ σ fT_kinds 0 p ∧ σ fT_kinds 0 p ≤ 12
      · rw [decide_eq_true c2, if_neg b2i_n, nx, sk_s (f := fun q => sF (σ fT_kinds 0 q)) (p := p) h (decide_eq_true (Or.inr (Or.inl c2)))]
      · rw [decide_eq_false c2, if_pos b2i_f, up_eq, s_r_is hd ⟨h0, by omega⟩]
        simp only [Option.bind_some]
        rw [kk]
        by_cases c3 : σ fT_kinds 0 p = 63
        · rw [decide_eq_true c3, if_neg b2i_n, nx, sk_s (f := fun q => sF (σ fT_kinds 0 q)) (p := p) h (decide_eq_true (Or.inr (Or.inr (Or.inl c3))))]
        · rw [decide_eq_false c3, if_pos b2i_f, up_eq, s_r_is hd ⟨h0, by omega⟩]
          simp only [Option.bind_some]
          rw [kk]
          by_cases c4 : σ fT_kinds 0 p = 62
          · rw [decide_eq_true c4, if_neg b2i_n, nx, sk_s (f := fun q => sF (σ fT_kinds 0 q)) (p := p) h (decide_eq_true (Or.inr (Or.inr (Or.inr c4))))]
          · rw [decide_eq_false c4, if_pos b2i_f, sk_x (f := fun q => sF (σ fT_kinds 0 q)) (p := p) h (decide_eq_false (by omega))]

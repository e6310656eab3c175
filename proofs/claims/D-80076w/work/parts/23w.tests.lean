/-! tests of the model where it is wrong already -/
def mbL : List Nat := [fM_thingSort, fM_thingRun, fM_thingAt, fM_what, fM_tFirst, fM_tNot, fM_tForm, fM_tThing, fM_tThingRun, fM_tRun, fM_tWhat, fM_tWay, fM_tOther, fM_tOtherRun, fM_tEnd, fM_tCount]
/-- what a part of a test leaves there -/
def mbQ (τ τ' : ga_S) (j : Int) : Prop := fr mbL τ τ' ∧ tKeep τ τ' j
theorem mbQ_trans {τ τ1 τ2 : ga_S} {j : Int} (h : mbQ τ τ1 j) (h2 : mbQ τ1 τ2 j) : mbQ τ τ2 j := ⟨fr_trans h.1 h2.1, tKeep_trans h.2 h2.2⟩
theorem mbQ_u {τ : ga_S} {j v : Int} {F : Nat} (h : F ∈ mbL) : mbQ τ (ga_up τ F 0 j v) j := ⟨fr_u h, tKeep_u⟩
theorem mbQ_f {τ τ' : ga_S} {j : Int} {L : List Nat} (h : fr L τ τ') (h1 : ∀ F, F ∈ L → F ∈ mbL) (h2 : ∀ F, F ∈ tA → F ∉ L) : mbQ τ τ' j := ⟨fr_sub h h1, tKeep_f h h2⟩
theorem mb_tot {τ : ga_S} {d : Nat} (hd : 5 ≤ d) (hb : τ fM_isBad 0 0 = 1) (hj : 0 ≤ τ fM_tCount 0 0 ∧ τ fM_tCount 0 0 < 1700) : ∃ τ', c_m_thingOfTest d τ = some (0, τ') ∧ mbQ τ τ' (τ fM_tCount 0 0) ∧ τ' fM_tCount = τ fM_tCount := by
  obtain ⟨d, rfl⟩ : ∃ e, d = e + 1 := ⟨d - 1, by omega⟩
  obtain ⟨τ1, e1, e2⟩ := mb_thing (τ := τ) (d := d) (by omega) hb
  have j1 : τ1 fM_tCount 0 0 = τ fM_tCount 0 0 := by rw [e2 _ (by decide)]
  rw [e_m_thingOfTest, e1]
  simp only [Option.bind_some]
  rw [j1, ck_ok _ hj, ck_ok _ hj]
  exact ⟨_, rfl, mbQ_trans (mbQ_f e2 (by decide) (mem_no (by decide))) (mbQ_trans (mbQ_u (by decide)) (mbQ_u (by decide))), by rw [up_F (by decide), up_F (by decide), e2 _ (by decide)]⟩
theorem mb_prop {τ : ga_S} {d : Nat} (hd : 3 ≤ d) (hb : τ fM_isBad 0 0 = 1) (hj : 0 ≤ τ fM_tCount 0 0 ∧ τ fM_tCount 0 0 < 1700) : ∃ τ', c_m_property0 d τ = some (0, τ') ∧ mbQ τ τ' (τ fM_tCount 0 0) ∧ τ' fM_tCount = τ fM_tCount := by
  obtain ⟨d, rfl⟩ : ∃ e, d = e + 1 := ⟨d - 1, by omega⟩
  rw [e_m_property0, mb_take (by omega) hb]
  simp only [Option.bind_some]
  rw [mb_run (by omega) hb]
  simp only [Option.bind_some]
  rw [ck_ok _ hj, mb_take (by omega) (by rw [up_F (by decide)]; exact hb)]
  exact ⟨_, rfl, mbQ_u (by decide), by show ga_up τ fM_tRun 0 (τ fM_tCount 0 0) 0 fM_tCount = τ fM_tCount; rw [up_F (by decide)]⟩
theorem mb_tl {τ : ga_S} {d : Nat} (hd : 4 ≤ d) (hb : τ fM_isBad 0 0 = 1) (hj : 0 ≤ τ fM_tCount 0 0 ∧ τ fM_tCount 0 0 < 1700) (ha : 0 ≤ τ fM_at 0 0 ∧ τ fM_at 0 0 ≤ 5002) (now : Int) : ∃ τ', tlM d τ now = some (0, τ') ∧ mbQ τ τ' (τ fM_tCount 0 0) ∧ τ' fM_tCount 0 0 = τ fM_tCount 0 0 + 1 := by
  have h0 : c_m_isNext d τ 106 = some (b2i false, τ) := by rw [mb_isNext (by omega) hb]; rfl
  rw [tlM_eq h0 hj ha now]
  obtain ⟨τ1, e1⟩ : ∃ x, x = ga_up (ga_up τ fM_tNot 0 (τ fM_tCount 0 0) (b2i false)) fM_at 0 0 (τ fM_at 0 0 + b2i false) := ⟨_, rfl⟩
  have e1' : τ1 = ga_up τ fM_tNot 0 (τ fM_tCount 0 0) (b2i false) := by
    rw [e1]; exact up_id (by rw [up_F (by decide), b2i_f]; omega)
  rw [← e1]
  have Q1 : mbQ τ τ1 (τ fM_tCount 0 0) := by rw [e1']; exact mbQ_u (by decide)
  have b1 : τ1 fM_isBad 0 0 = 1 := by rw [Q1.1 _ (by decide)]; exact hb
  have j1 : τ1 fM_tCount 0 0 = τ fM_tCount 0 0 := by rw [e1', up_F (by decide)]
  unfold tlM2
  rw [mb_isNext (by omega) b1]
  simp only [Option.bind_some]
  rw [if_pos trivial, j1]
  by_cases cn : now = 0
  · have b2 : (ga_up τ1 fM_tForm 0 (τ fM_tCount 0 0) 4) fM_isBad 0 0 = 1 := by rw [up_F (by decide)]; exact b1
    have j2 : (ga_up τ1 fM_tForm 0 (τ fM_tCount 0 0) 4) fM_tCount 0 0 = τ fM_tCount 0 0 := by rw [up_F (by decide)]; exact j1
    obtain ⟨τ2, n1, n2, n3, n4⟩ := mb_plc (τ := ga_up τ1 fM_tForm 0 (τ fM_tCount 0 0) 4) (d := d) (by omega) b2 (by rw [j2]; exact hj) now 0
    rw [j2] at n1 n3 n4
    rw [if_pos cn, ck_ok _ hj, mb_placing (by omega) b2]
    simp only [Option.bind_some]
    rw [ck_ok _ hj]
    exact ⟨τ2, n1, mbQ_trans Q1 (mbQ_trans (mbQ_u (by decide)) ⟨fr_sub n2 (by decide), n3⟩), n4⟩
  · rw [if_neg cn, mb_odd (by omega) b1]
    simp only [Option.bind_some]
    rw [mb_351 b1 (by rw [j1]; exact hj), j1]
    exact ⟨_, rfl, mbQ_trans Q1 (mbQ_trans (mbQ_u (by decide)) (mbQ_f (L := [fM_tCount]) (fr_u (by decide)) (by decide) (mem_no (by decide)))), up_eq ..⟩
theorem mb_tq {τ : ga_S} {d : Nat} (hd : 5 ≤ d) (hb : τ fM_isBad 0 0 = 1) (hj : 0 ≤ τ fM_tCount 0 0 ∧ τ fM_tCount 0 0 < 1700) (ha : 0 ≤ τ fM_at 0 0 ∧ τ fM_at 0 0 ≤ 5002) (now : Int) : ∃ τ', tqM d τ now = some (0, τ') ∧ mbQ τ τ' (τ fM_tCount 0 0) ∧ τ' fM_tCount 0 0 = τ fM_tCount 0 0 + 1 := by
  obtain ⟨d, rfl⟩ : ∃ e, d = e + 1 := ⟨d - 1, by omega⟩
  obtain ⟨τ1, e1⟩ : ∃ x, x = ga_up (ga_up (ga_up τ fM_tForm 0 (τ fM_tCount 0 0) 0) fM_tNot 0 (τ fM_tCount 0 0) 0) fM_at 0 0 (τ fM_at 0 0) := ⟨_, rfl⟩
  have e1' : τ1 = ga_up (ga_up τ fM_tForm 0 (τ fM_tCount 0 0) 0) fM_tNot 0 (τ fM_tCount 0 0) 0 := by
    rw [e1]; exact up_id (by rw [up_F (by decide), up_F (by decide)])
  have Q1 : mbQ τ τ1 (τ fM_tCount 0 0) := by rw [e1']; exact mbQ_trans (mbQ_u (by decide)) (mbQ_u (by decide))
  have b1 : τ1 fM_isBad 0 0 = 1 := by rw [Q1.1 _ (by decide)]; exact hb
  have j1 : τ1 fM_tCount 0 0 = τ fM_tCount 0 0 := by rw [e1', up_F (by decide), up_F (by decide)]
  have m84 : m_testedWhat_84 d τ now = m_testedWhat_120 d (ga_up τ fM_tForm 0 (τ fM_tCount 0 0) 0) 0 (τ fM_tCount 0 0) := by
    rw [e_m_testedWhat_84, ck_ok _ hj]
    by_cases cn : now = 0
    · rw [if_pos cn, mb_isNext (by omega) (by rw [up_F (by decide)]; exact hb)]
      simp only [Option.bind_some]
      rw [if_pos trivial, e_m_testedWhat_119]
    · rw [if_neg cn, e_m_testedWhat_119]
  have mT : c_m_testedWhat (d + 1) τ now = m_testedWhat_84 d τ now := by
    rw [e_m_testedWhat]
    by_cases cn : now = 0
    · rw [if_pos cn, mb_isNext (by omega) hb]
      simp only [Option.bind_some]
      rw [if_pos trivial, mb_isNext (by omega) hb]
      simp only [Option.bind_some]
      rw [if_pos trivial]
    · rw [if_neg cn]
  obtain ⟨τ2, e2⟩ : ∃ x, x = ga_up (ga_up (ga_up τ1 fM_what 0 0 (τ1 fM_at 0 0)) fM_tWhat 0 (τ fM_tCount 0 0) (τ1 fM_at 0 0)) fM_tOtherRun 0 (τ fM_tCount 0 0) (w32 (τ1 fM_runs 0 0 - 1)) := ⟨_, rfl⟩
  have Q2 : mbQ τ1 τ2 (τ fM_tCount 0 0) := by rw [e2]; exact mbQ_trans (mbQ_trans (mbQ_f (L := [fM_what]) (fr_u (by decide)) (by decide) (mem_no (by decide))) (mbQ_u (by decide))) (mbQ_u (by decide))
  have b2 : τ2 fM_isBad 0 0 = 1 := by rw [Q2.1 _ (by decide)]; exact b1
  have j2 : τ2 fM_tCount 0 0 = τ fM_tCount 0 0 := by rw [e2, up_F (by decide), up_F (by decide), up_F (by decide)]; exact j1
  refine ⟨ga_up (ga_up τ2 fM_tEnd 0 (τ fM_tCount 0 0) (τ2 fM_at 0 0)) fM_tCount 0 0 (τ fM_tCount 0 0 + 1), ?_, mbQ_trans Q1 (mbQ_trans Q2 (mbQ_trans (mbQ_u (by decide)) (mbQ_f (L := [fM_tCount]) (fr_u (by decide)) (by decide) (mem_no (by decide))))), up_eq ..⟩
  unfold tqM
  rw [mT, m84, e_m_testedWhat_120, ck_ok _ hj, z1_ok _ (by omega), up_F (F' := fM_tCount) (by decide), ck_ok _ hj, up_eq, if_pos rfl, e_m_testedWhat_143, up_F (F' := fM_at) (by decide), Int.add_zero, w32_ok (by omega), ← e1, mb_what (by omega) b1]
  simp only [Option.bind_some]
  rw [up_F (F' := fM_tCount) (by decide), j1, ck_ok _ hj, ck_ok _ hj, up_eq, up_F (F' := fM_runs) (by decide), ← e2]
  simp only [Option.bind_some]
  rw [mb_351 b2 (by rw [j2]; exact hj), j2]
/-- there is an end of a test from any place on -/
theorem toT_ex {σ τ : ga_S} {f : Int} {N : Nat} (hE : ENV σ τ f N) (now : Int) {a : Int} (ha : 0 ≤ a) (haN : a ≤ N) : ∃ b, toT (σ fT_kinds 0) now a b ∧ b ≤ N := by
  have A := sk_all (f := fun q => !endB now (σ fT_kinds 0 q)) (n := (N : Int)) a
  refine ⟨sk (fun q => !endB now (σ fT_kinds 0 q)) N a, ⟨A.1, ?_, fun q h1 h2 => ?_⟩, A.2.1 haN⟩
  · by_cases c : sk (fun q => !endB now (σ fT_kinds 0 q)) N a < N
    · have := A.2.2.1 c
      have e : endB now (σ fT_kinds 0 (sk (fun q => !endB now (σ fT_kinds 0 q)) N a)) = true := by
        cases h : endB now (σ fT_kinds 0 (sk (fun q => !endB now (σ fT_kinds 0 q)) N a)) with
        | true => rfl
        | false => rw [h] at this; cases this
      unfold endB at e
      unfold endT
      exact of_decide_eq_true e
    · have e : sk (fun q => !endB now (σ fT_kinds 0 q)) N a = N := by have := A.2.1 haN; omega
      rw [e]
      unfold endT
      rcases hE.2.2.2.2.1 with z | z <;> omega
  · have := A.2.2.2 q h1 h2
    have e : endB now (σ fT_kinds 0 q) = false := by
      cases h : endB now (σ fT_kinds 0 q) with
      | false => rfl
      | true => rw [h] at this; cases this
    unfold endB at e
    unfold endT
    exact of_decide_eq_false e
theorem mb_test {σ τ : ga_S} {f : Int} {N : Nat} (hE : ENV σ τ f N) {a : Int} (ha : 0 ≤ a) (haN : a ≤ N) (hb : τ fM_isBad 0 0 = 1) (hat : τ fM_at 0 0 = f + a) (hj : 0 ≤ τ fM_tCount 0 0 ∧ τ fM_tCount 0 0 < 1700) {d : Nat} (hd : 8 ≤ d) (now : Int) : ∃ τ', c_m_test d τ now = some (0, τ') ∧ mbQ τ τ' (τ fM_tCount 0 0) ∧ τ' fM_tCount 0 0 = τ fM_tCount 0 0 + 1 := by
  have hf := hE.1
  have hN := hE.2.1
  have hN5 := hE.2.2.1
  obtain ⟨d, rfl⟩ : ∃ e, d = e + 1 := ⟨d - 1, by omega⟩
  obtain ⟨b, hT, hbN⟩ := toT_ex hE now ha haN
  have hab := hT.1
  have kb := hE.2.2.2.1 b (by omega) hbN
  have eB : endB now (σ fT_kinds 0 b) = true := decide_eq_true hT.2.1
  have m13 := s_m_t_13 hE (d := d) (by omega) (f + a) hbN a ha hT.1 hT.2.2 false
  rw [Bool.false_or, b2i_f] at m13
  obtain ⟨j, ej⟩ : ∃ j, j = τ fM_tCount 0 0 := ⟨_, rfl⟩
  obtain ⟨τ0, eτ0⟩ : ∃ x, x = ga_up (ga_up τ fM_tFirst 0 j (f + a)) fM_tNot 0 j 0 := ⟨_, rfl⟩
  have Q0 : mbQ τ τ0 j := by rw [eτ0]; exact mbQ_trans (mbQ_u (by decide)) (mbQ_u (by decide))
  have b0 : τ0 fM_isBad 0 0 = 1 := by rw [Q0.1 _ (by decide)]; exact hb
  have a0 : τ0 fM_at 0 0 = f + a := by rw [Q0.1 _ (by decide)]; exact hat
  have j0 : τ0 fM_tCount 0 0 = j := by rw [eτ0, up_F (by decide), up_F (by decide), ej]
  have hjj : 0 ≤ j ∧ j < 1700 := by rw [ej]; exact hj
  have E0 : ENV σ τ0 f N := ENV_c hE rfl (Q0.1 _ (by decide))
  rw [e_m_test, hat, m13, e_m_test_13, ck_ok _ (by omega), kb.2.2, s_m_endsTest (by omega) ⟨kb.1, kb.2.1⟩]
  simp only [Option.bind_some]
  rw [eB, if_neg b2i_n, ← ej, ck_ok _ hjj, ck_ok _ hjj, ← eτ0]
  by_cases cq : qI (σ fT_kinds 0) b a < b
  · have bo := s_m_beginsOf E0 (d := d) (by omega) (p := a) ha haN
    rw [decide_eq_true cq, if_neg b2i_n, hat, bo]
    simp only [Option.bind_some]
    cases hO : ofB (σ fT_kinds 0) N a with
    | false =>
      obtain ⟨τ1, e1, Q1, e3⟩ := mb_tot (τ := τ0) (d := d) (by omega) b0 (by rw [j0]; exact hjj)
      rw [j0] at Q1
      have b1 : τ1 fM_isBad 0 0 = 1 := by rw [Q1.1 _ (by decide)]; exact b0
      have j1 : τ1 fM_tCount 0 0 = j := by rw [e3]; exact j0
      obtain ⟨τ2, g1, Q2, g3⟩ := mb_tl (τ := τ1) (d := d) (by omega) b1 (by rw [j1]; exact hjj) (by rw [Q1.1 _ (by decide), a0]; omega) now
      rw [j1] at Q2 g3
      rw [if_pos b2i_f, e1]
      simp only [Option.bind_some]
      rw [mb_take (by omega) b1]
      simp only [Option.bind_some]
      exact ⟨τ2, g1, mbQ_trans Q0 (mbQ_trans Q1 Q2), g3⟩
    | true =>
      obtain ⟨τp, x1, Qp, x3⟩ := mb_prop (τ := τ0) (d := d) (by omega) b0 (by rw [j0]; exact hjj)
      rw [j0] at Qp
      have bp : τp fM_isBad 0 0 = 1 := by rw [Qp.1 _ (by decide)]; exact b0
      have jp : τp fM_tCount 0 0 = j := by rw [x3]; exact j0
      obtain ⟨τ1, e1, Q1, e3⟩ := mb_tot (τ := τp) (d := d) (by omega) bp (by rw [jp]; exact hjj)
      rw [jp] at Q1
      have b1 : τ1 fM_isBad 0 0 = 1 := by rw [Q1.1 _ (by decide)]; exact bp
      have j1 : τ1 fM_tCount 0 0 = j := by rw [e3]; exact jp
      obtain ⟨τ2, g1, Q2, g3⟩ := mb_tq (τ := τ1) (d := d) (by omega) b1 (by rw [j1]; exact hjj) (by rw [Q1.1 _ (by decide), Qp.1 _ (by decide), a0]; omega) now
      rw [j1] at Q2 g3
      rw [if_neg b2i_n, x1]
      simp only [Option.bind_some]
      rw [e1]
      simp only [Option.bind_some]
      rw [mb_take (by omega) b1]
      simp only [Option.bind_some]
      exact ⟨τ2, g1, mbQ_trans Q0 (mbQ_trans Qp (mbQ_trans Q1 Q2)), g3⟩
  · have b1 : (ga_up τ0 fM_tForm 0 j 5) fM_isBad 0 0 = 1 := by rw [up_F (by decide)]; exact b0
    have j1 : (ga_up τ0 fM_tForm 0 j 5) fM_tCount 0 0 = j := by rw [up_F (by decide)]; exact j0
    rw [decide_eq_false cq, if_pos b2i_f, ck_ok _ hjj, mb_look (by omega) b1]
    simp only [Option.bind_some]
    rw [e_m_test_96, if_neg (by decide), s_m_isArt (by omega)]
    simp only [Option.bind_some]
    rw [if_pos (by decide), if_neg (by decide), if_neg (by decide), up_F (F' := fM_at) (by decide), a0, if_pos rfl, mb_odd (by omega) b1]
    simp only [Option.bind_some]
    rw [e_m_test_157, mb_351 b1 (by rw [j1]; exact hjj), j1]
    exact ⟨_, rfl, mbQ_trans Q0 (mbQ_trans (mbQ_u (by decide)) (mbQ_trans (mbQ_u (by decide)) (mbQ_f (L := [fM_tCount]) (fr_u (by decide)) (by decide) (mem_no (by decide))))), up_eq ..⟩

/-! a test, on both sides -/
theorem qI_f {σ : ga_S} {now a b : Int} (hT : toT (σ fT_kinds 0) now a b) : a ≤ qI (σ fT_kinds 0) b a ∧ qI (σ fT_kinds 0) b a ≤ b ∧ (∀ k, a ≤ k → k < qI (σ fT_kinds 0) b a → σ fT_kinds 0 k ≠ 13) ∧ (qI (σ fT_kinds 0) b a < b → σ fT_kinds 0 (qI (σ fT_kinds 0) b a) = 13) := by
  have A := sk_all (f := fun q => decide (¬ σ fT_kinds 0 q = 13)) (n := b) a
  refine ⟨A.1, A.2.1 hT.1, fun k h1 h2 => of_decide_eq_true (A.2.2.2 k h1 h2), fun h => ?_⟩
  exact Classical.not_not.mp (of_decide_eq_false (A.2.2.1 h))
/-- the row of a test, from its parts -/
theorem tRw_1 {σ τ : ga_S} {f a b j : Int} (h1 : τ fM_tNot 0 j = σ fR_isNot 0 0) (h2 : thE σ τ f (σ fR_thingFrom 0 0) (σ fR_thingTo 0 0) (τ fM_tThing 0 j) (τ fM_tThingRun 0 j)) (h3 : rw1 σ τ f b j) (hB : tB σ a b) (hS : τ fM_tFirst 0 j = f + a) : tRw σ τ f a b j := by
  refine ⟨?_, hB, hS⟩
  rcases h3 with h3 | h3
  · exact Or.inr ⟨h1, h2, Or.inl h3⟩
  · exact Or.inr ⟨h1, h2, Or.inr (Or.inl h3)⟩
theorem tRw_2 {σ τ : ga_S} {f a b j : Int} (h1 : τ fM_tNot 0 j = σ fR_isNot 0 0) (h2 : thE σ τ f (σ fR_thingFrom 0 0) (σ fR_thingTo 0 0) (τ fM_tThing 0 j) (τ fM_tThingRun 0 j)) (hp : rnR σ τ f (τ fM_tRun 0 j) (σ fR_propertyFrom 0 0) (σ fR_propertyTo 0 0)) (h3 : rw2 σ τ f b j) (hB : tB σ a b) (hS : τ fM_tFirst 0 j = f + a) : tRw σ τ f a b j := by
  refine ⟨?_, hB, hS⟩
  rcases h3 with ⟨g1, g2, g3, g4⟩ | ⟨g1, g2, g3, g4, g5⟩
  · exact Or.inr ⟨h1, h2, Or.inr (Or.inr (Or.inl ⟨g1, g2, hp, g3, g4⟩))⟩
  · exact Or.inr ⟨h1, h2, Or.inr (Or.inr (Or.inr ⟨g1, g2, g3, hp, g4, g5⟩))⟩
/-- what a test leaves, from any store of the component's -/
def tsX (σ σ' τ τ' : ga_S) (f : Int) (N : Nat) (a b : Int) : Prop := PR σ' τ' f N ∧ JR σ' τ' ∧ fr tsC σ σ' ∧ fr tsM τ τ' ∧ σ' fR_runs 0 0 = σ fR_runs 0 0 ∧ rKeepC σ σ' ∧ rKeep τ τ' ∧ tKeep τ τ' (τ fM_tCount 0 0) ∧ τ' fM_tCount 0 0 = τ fM_tCount 0 0 + 1 ∧ (σ' fR_bad 0 0 = -1 → σ' fR_p 0 0 = b ∧ tRw σ' τ' f a b (τ fM_tCount 0 0))
theorem P_test {σ τ : ga_S} {f : Int} {N : Nat} (hE : ENV σ τ f N) (hb : σ fR_bad 0 0 = -1) {a b now : Int} (ha : 0 ≤ a) (hT : toT (σ fT_kinds 0) now a b) (hbN : b ≤ N) (hnow : now = 0 ∨ now = 1) (hτ : τ fM_isBad 0 0 = 0 ∧ τ fM_at 0 0 = f + a) (hJ : 0 ≤ σ fR_runs 0 0 ∧ σ fR_runs 0 0 ≤ τ fM_runs 0 0 ∧ 2 * τ fM_runs 0 0 ≤ a + 1 ∧ (σ fT_kinds 0 a = 0 → 2 * τ fM_runs 0 0 ≤ a)) (hj : 0 ≤ τ fM_tCount 0 0 ∧ τ fM_tCount 0 0 < 1700) {d : Nat} (hd : 8 ≤ d) : ∃ σ' τ', c_r_testShape d σ a b now = some (0, σ') ∧ c_m_test d τ now = some (0, τ') ∧ tsX σ σ' τ τ' f N a b ∧ (now = 1 → σ' fR_bad 0 0 = -1 → σ' fR_form 0 0 ≠ 1 ∧ σ' fR_form 0 0 ≠ 3) := by
  have hf := hE.1
  have hN := hE.2.1
  have hN5 := hE.2.2.1
  obtain ⟨d, rfl⟩ : ∃ e, d = e + 1 := ⟨d - 1, by omega⟩
  obtain ⟨j, ej⟩ : ∃ j, j = τ fM_tCount 0 0 := ⟨_, rfl⟩
  obtain ⟨σ0, eσ0⟩ : ∃ x, x = ga_up (ga_up σ fR_p 0 0 a) fR_isNot 0 0 0 := ⟨_, rfl⟩
  have f0 : fr [fR_p, fR_isNot] σ σ0 := by rw [eσ0]; exact fr_trans (fr_u (by decide)) (fr_u (by decide))
  have p0 : σ0 fR_p 0 0 = a := by rw [eσ0, up_F (by decide), up_eq]
  have b0 : σ0 fR_bad 0 0 = -1 := by rw [f0 _ (by decide)]; exact hb
  have k0 : σ0 fT_kinds = σ fT_kinds := f0 _ (by decide)
  have i0 : σ0 fR_isNot 0 0 = 0 := by rw [eσ0, up_eq]
  obtain ⟨τ0, eτ0⟩ : ∃ x, x = ga_up (ga_up τ fM_tFirst 0 j (f + a)) fM_tNot 0 j 0 := ⟨_, rfl⟩
  have m0 : fr [fM_tFirst, fM_tNot] τ τ0 := by rw [eτ0]; exact fr_trans (fr_u (by decide)) (fr_u (by decide))
  have j0 : τ0 fM_tCount 0 0 = j := by rw [m0 _ (by decide)]; exact ej.symm
  have E0 : ENV σ0 τ0 f N := ENV_c hE k0 (m0 _ (by decide))
  have P0 : PR σ0 τ0 f N := by
    have := hT.1
    unfold PR
    rw [p0, b0, m0 fM_at (by decide), m0 fM_isBad (by decide), hτ.2]
    exact ⟨by omega, Or.inl ⟨rfl, hτ.1, ha, by omega, rfl⟩⟩
  have J0 : JR σ0 τ0 := by
    unfold JR
    rw [p0, k0, f0 fR_runs (by decide), m0 fM_runs (by decide)]
    have := hT.1
    exact ⟨hJ.1, hJ.2.1, by omega, fun _ => hJ.2.2⟩
  have hj0 : 0 ≤ τ0 fM_tCount 0 0 ∧ τ0 fM_tCount 0 0 < 1700 := by rw [j0]; omega
  have n0 : τ0 fM_tNot 0 (τ0 fM_tCount 0 0) = 0 := by rw [j0, eτ0, up_eq]
  have t0 : τ0 fM_tFirst 0 (τ0 fM_tCount 0 0) = f + σ0 fR_p 0 0 := by rw [j0, p0, eτ0, up_F (by decide), up_eq]
  have tk0 : tKeep τ τ0 j := by rw [eτ0]; exact tKeep_trans tKeep_u tKeep_u
  -- all from the stores σ0, τ0 on
  have wrap : ∀ σ' τ', tsQ σ0 σ' τ0 τ' f N j → τ' fM_tCount 0 0 = j + 1 → (σ' fR_bad 0 0 = -1 → σ' fR_p 0 0 = b ∧ tRw σ' τ' f a b j) → tsX σ σ' τ τ' f N a b := by
    intro σ' τ' ⟨q1, q2, q3, q4, q5, q6, q7, q8⟩ h2 h3
    unfold tsX
    rw [← ej]
    refine ⟨q1, q2, fr_trans (fr_sub f0 (by decide)) q3, fr_trans (fr_sub m0 (by decide)) q4, by rw [q5, f0 _ (by decide)], ?_, ?_, tKeep_trans tk0 q8, h2, h3⟩
    · exact rKeepC_trans (rKeepC_eq (f0 _ (by decide)) (f0 _ (by decide))) (by rw [f0 _ (by decide)]; exact Int.le_refl _) q6
    · exact rKeep_trans (rKeep_eq (m0 _ (by decide)) (m0 _ (by decide)) (m0 _ (by decide))) q7
  have hT0 : toT (σ0 fT_kinds 0) now (σ0 fR_p 0 0) b := by rw [k0, p0]; exact hT
  obtain ⟨q1, q2, q3, q4⟩ := qI_f hT
  have kb := hE.2.2.2.1 b (by have := hT.1; omega) hbN
  have eB : endB now (σ fT_kinds 0 b) = true := decide_eq_true hT.2.1
  have m13 := s_m_t_13 hE (d := d) (by omega) (f + a) hbN a ha hT.1 hT.2.2 false
  rw [Bool.false_or, b2i_f] at m13
  rw [e_r_testShape, if_pos hb, ← eσ0, s_r_ts_22 (by omega) a now (by omega) a ha hT.1, k0, e_m_test, hτ.2, m13, e_m_test_13, ck_ok _ (by omega), kb.2.2, s_m_endsTest (by omega) ⟨kb.1, kb.2.1⟩]
  simp only [Option.bind_some]
  rw [eB, if_neg b2i_n, ← ej, ck_ok _ (by omega), ck_ok _ (by omega), ← eτ0]
  by_cases cq : qI (σ fT_kinds 0) b a < b
  · -- with is
    obtain ⟨q, eq⟩ : ∃ q, q = qI (σ fT_kinds 0) b a := ⟨_, rfl⟩
    rw [← eq] at q1 q2 q3 q4 cq ⊢
    have q4 := q4 cq
    have bo := s_m_beginsOf E0 (d := d) (by omega) (p := a) ha (by omega)
    rw [decide_eq_true cq, if_neg b2i_n, hτ.2, bo]
    simp only [Option.bind_some]
    rw [k0]
    -- the component finds the same
    have c46 : r_testShape_46 d σ0 a b now q = r_testShape_206 d σ0 b now q (b2i (ofB (σ fT_kinds 0) N a)) := by
      rw [e_r_testShape_46, if_neg (by omega), p0, s_r_is (by omega) (by omega)]
      simp only [Option.bind_some]
      rw [k0, p0]
      unfold ofB
      by_cases c1 : σ fT_kinds 0 a = 11
      · have lt := ENV_lt hE (by omega) c1 (by omega) (by omega)
        rw [decide_eq_true c1, if_neg b2i_n, w32_ok (by omega), s_r_isFree (by omega) (by omega)]
        simp only [Option.bind_some]
        rw [k0]
        by_cases c2 : σ fT_kinds 0 (a + 1) = 0
        · have F := frE_r hE (p := a + 1) (by omega) (by omega)
          rw [decide_eq_true c2, if_neg b2i_n, p0, w32_ok (by omega), s_r_behindRun E0 (by omega) (by omega) (by omega)]
          simp only [Option.bind_some]
          rw [k0, s_r_is (by omega) (by omega)]
          simp only [Option.bind_some]
          rw [k0]
          by_cases c3 : σ fT_kinds 0 (frE (σ fT_kinds 0) N (a + 1)) = 16
          · rw [decide_eq_true c3, if_neg b2i_n, decide_eq_true ⟨c1, c2, c3⟩]; rfl
          · rw [decide_eq_false c3, if_pos b2i_f, e_r_testShape_205, decide_eq_false (fun z => c3 z.2.2)]; rfl
        · rw [decide_eq_false c2, if_pos b2i_f, e_r_testShape_205, decide_eq_false (fun z => c2 z.2.1)]; rfl
      · rw [decide_eq_false c1, if_pos b2i_f, e_r_testShape_205, decide_eq_false (fun z => c1 z.1)]; rfl
    rw [c46]
    cases hO : ofB (σ fT_kinds 0) N a with
    | false =>
      obtain ⟨σ1, σ2, σ3, v, τ1, τ3, e1, e2, e3, e4, e5, Q3, e7, e8, e9, e10⟩ := T_is E0 P0 J0 (d := d) (by omega) hj0 (q := q) (fun _ => by rw [p0, k0]; exact ⟨q1, q3⟩) (by rw [k0]; exact q4)
      rw [j0] at Q3 e10
      have E3 := tsQ_E Q3 E0
      have j3 : τ3 fM_tCount 0 0 = j := by rw [e7]; exact j0
      have T3 : σ3 fR_bad 0 0 = -1 → toT (σ3 fT_kinds 0) now (σ3 fR_p 0 0) b := by
        intro z
        rw [(e10 z).2.1, e8 _ (by decide), k0]
        exact toT_mv hT (by omega) (fun k h1 h2 => hT.2.2 k h1 (by omega))
      obtain ⟨σ', τ', g1, g2, ⟨g3, g3a, g3b⟩, g4, g5, g6, g7, g8⟩ := T_r1 E3 Q3.1 Q3.2.1 (d := d) (by omega) T3 (by rw [j3]; omega)
      rw [j3] at g3 g3a g8
      rw [if_pos b2i_f]
      refine ⟨σ', τ', ?_, ?_, wrap σ' τ' (tsQ_trans Q3 g3) g3a (fun z => ?_), fun hn z => ?_⟩
      · rw [e_r_testShape_206, if_pos b2i_f, e_r_testShape_261, e1]
        simp only [Option.bind_some]
        rw [e2]
        simp only [Option.bind_some]
        rw [e3]
        simp only [Option.bind_some]
        rw [if_pos b2i_f]
        exact g1
      · rw [e4]
        simp only [Option.bind_some]
        rw [e5]
        simp only [Option.bind_some]
        exact g2
      · have z3 := g3b z
        have w := e10 z3.1
        have w8 := g8 z
        have kk : σ' fT_kinds = σ fT_kinds := (g3.2.2.1 _ (by decide)).trans ((e8 _ (by decide)).trans k0)
        have hB : tB σ' a b := by
          refine ⟨w8.1.2, Or.inr ⟨⟨by rw [g4, w.2.2.1, p0]; exact Int.le_refl _, by rw [g5, w.2.2.2.1]; omega⟩, fun y => ?_, fun y => ?_, fun y => ?_, fun y => ?_⟩⟩
          · rcases w8.2.1 with ⟨u1, u2, u3⟩ | ⟨u1, _⟩
            · refine ⟨?_, u3.2.2.2.2.1⟩
              refine Classical.byContradiction fun hc => ?_
              have := u3.2.2.2.2.2.2 q (by omega) cq
              rw [kk, q4] at this
              omega
            · omega
          · have := w8.2.2 y
            rw [w.2.1] at this
            exact ⟨by omega, this.1.2⟩
          · rcases w8.2.1 with ⟨u1, _⟩ | ⟨u1, _⟩ <;> omega
          · rcases w8.2.1 with ⟨u1, _⟩ | ⟨u1, _⟩ <;> omega
        have hS : τ' fM_tFirst 0 j = f + a := by rw [g6.2, e9 _ (by decide), eτ0, up_F (by decide), up_eq]
        refine ⟨z3.2, tRw_1 w8.1.1 ?_ w8.2.1 hB hS⟩
        rw [g4, g5, g6.1, g7, w.2.2.1, w.2.2.2.1]
        exact thE_keep w.2.2.2.2 g3.2.2.2.2.2.2.1 (g3.2.2.1 _ (by decide))
      · have w8 := g8 z
        refine ⟨fun y => ?_, fun y => ?_⟩
        · have := (w8.2.2 y).2
          omega
        · rcases w8.2.1 with ⟨u1, _⟩ | ⟨u1, _⟩ <;> omega
    | true =>
      have o := of_decide_eq_true hO
      obtain ⟨σp, τp, x1, x2, Qp, x4, x5, x6, x7, x8, x9, x10, x11⟩ := T_prop E0 P0 J0 b0 (d := d) (by omega) hj0 (by rw [k0, p0]; exact hO)
      rw [j0] at Qp x11
      rw [k0, p0] at x1 x7 x8 x10
      rw [p0] at x9
      have Ep := tsQ_E Qp E0
      have jp : τp fM_tCount 0 0 = j := by rw [x4]; exact j0
      have kp : σp fT_kinds = σ fT_kinds := (Qp.2.2.1 _ (by decide)).trans k0
      have F := frE_r hE (p := a + 1) (by omega) (by have := ENV_lt hE (by omega) o.1 (by omega) (by omega); omega)
      have lq : frE (σ fT_kinds 0) N (a + 1) < q := by
        refine Classical.byContradiction fun hc => ?_
        by_cases y1 : q = a
        · rw [y1, o.1] at q4; omega
        · by_cases y2 : q = frE (σ fT_kinds 0) N (a + 1)
          · rw [y2, o.2.2] at q4; omega
          · have := F.2.2.2 q (by omega) (by omega)
            omega
      obtain ⟨σ1, σ2, σ3, v, τ1, τ3, e1, e2, e3, e4, e5, Q3, e7, e8, e9, e10⟩ := T_is Ep Qp.1 Qp.2.1 (d := d) (by omega) (by rw [jp]; omega) (q := q) (fun _ => by rw [x7, kp]; exact ⟨by omega, fun k h1 h2 => q3 k (by omega) h2⟩) (by rw [kp]; exact q4)
      rw [jp] at Q3 e10
      have E3 := tsQ_E Q3 Ep
      have j3 : τ3 fM_tCount 0 0 = j := by rw [e7]; exact jp
      have T3 : σ3 fR_bad 0 0 = -1 → toT (σ3 fT_kinds 0) now (σ3 fR_p 0 0) b := by
        intro z
        rw [(e10 z).2.1, e8 _ (by decide), kp]
        exact toT_mv hT (by omega) (fun k h1 h2 => hT.2.2 k h1 (by omega))
      have n3 : τ3 fM_tNot 0 (τ3 fM_tCount 0 0) = 0 := by
        rw [j3, e9 _ (by decide), x5 _ (by decide), ← j0]; exact n0
      have is3 : σ3 fR_isNot 0 0 = 0 := by
        rw [e8 _ (by decide), x1, up_F (by decide), up_F (by decide), up_F (by decide), up_F (by decide), up_F (by decide)]; exact i0
      obtain ⟨σ', τ', g1, g2, ⟨g3, g3a, g3b⟩, g4, g5, g6⟩ := T_r2 E3 Q3.1 Q3.2.1 (d := d) (by omega) hnow T3 (by rw [j3]; omega) n3 is3
      rw [j3] at g3 g3a g6
      rw [if_neg b2i_n]
      have lt1 := ENV_lt hE (by omega) o.1 (by omega) (by omega)
      refine ⟨σ', τ', ?_, ?_, wrap σ' τ' (tsQ_trans Qp (tsQ_trans Q3 g3)) g3a (fun z => ?_), fun hn z => ?_⟩
      · have Eb : ENV (ga_up (ga_up σ0 fR_p 0 0 (w32 (a + 1))) fR_propertyFrom 0 0 (w32 (a + 1))) τ0 f N := ENV_c E0 (by rw [up_F (by decide), up_F (by decide)]) rfl
        rw [e_r_testShape_206, if_neg b2i_n, p0, s_r_behindRun Eb (by omega) (by rw [w32_ok (by omega)]; omega) (by rw [w32_ok (by omega)]; omega)]
        simp only [Option.bind_some]
        rw [up_F (F' := fT_kinds) (by decide), up_F (F' := fT_kinds) (by decide), k0, w32_ok (x := a + 1) (by omega)]
        rw [w32_ok (x := a + 1) (by omega)] at x1
        rw [← x1, e_r_testShape_261, e1]
        simp only [Option.bind_some]
        rw [e2]
        simp only [Option.bind_some]
        rw [e3]
        simp only [Option.bind_some]
        rw [if_neg b2i_n]
        exact g1
      · rw [x2]
        simp only [Option.bind_some]
        rw [e4]
        simp only [Option.bind_some]
        rw [e5]
        simp only [Option.bind_some]
        exact g2
      · have z3 := g3b z
        have w := e10 z3.1
        have w8 := g6 z
        have kk : σ' fT_kinds = σ fT_kinds := (g4 _ (by decide)).trans ((e8 _ (by decide)).trans kp)
        have hB : tB σ' a b := by
          refine ⟨w8.1.2, Or.inr ⟨⟨by rw [g4 fR_thingFrom (by decide), w.2.2.1, x7]; omega, by rw [g4 fR_thingTo (by decide), w.2.2.2.1]; omega⟩, fun y => ?_, fun y => ?_, fun y => ?_, fun y => ?_⟩⟩
          · rcases w8.2.1 with ⟨u1, u2, u3, u4⟩ | ⟨u1, _⟩
            · rcases u4 with u4 | u4
              · omega
              · refine ⟨?_, u4.2.2.2.2.1⟩
                refine Classical.byContradiction fun hc => ?_
                have := u4.2.2.2.2.2.2 q (by omega) cq
                rw [kk, q4] at this
                omega
            · omega
          · rcases w8.2.1 with ⟨u1, _⟩ | ⟨u1, _⟩ <;> omega
          · rw [g4 fR_propertyFrom (by decide), e8 fR_propertyFrom (by decide), x9, g4 fR_propertyTo (by decide), e8 fR_propertyTo (by decide), x10]; omega
          · rw [g4 fR_thingTo (by decide), w.2.2.2.1]
            rcases w8.2.1 with ⟨u1, u2, u3, u4⟩ | ⟨u1, _⟩
            · rcases u4 with u4 | u4
              · omega
              · refine Classical.byContradiction fun hc => ?_
                have := u4.2.2.2.2.2.2 q (by omega) cq
                rw [kk, q4] at this
                omega
            · omega
        have hS : τ' fM_tFirst 0 j = f + a := by rw [g5 _ (by decide), e9 _ (by decide), x5 _ (by decide), eτ0, up_F (by decide), up_eq]
        refine ⟨z3.2, tRw_2 w8.1.1 ?_ ?_ w8.2.1 hB hS⟩
        · rw [g4 fR_thingFrom (by decide), g4 fR_thingTo (by decide), g5 fM_tThing (by decide), g5 fM_tThingRun (by decide), w.2.2.1, w.2.2.2.1]
          exact thE_keep w.2.2.2.2 g3.2.2.2.2.2.2.1 (g4 _ (by decide))
        · rw [g5 fM_tRun (by decide), e9 fM_tRun (by decide), g4 fR_propertyFrom (by decide), g4 fR_propertyTo (by decide), e8 fR_propertyFrom (by decide), e8 fR_propertyTo (by decide)]
          exact rnR_keep x11 (rKeep_trans Q3.2.2.2.2.2.2.1 g3.2.2.2.2.2.2.1) ((g4 _ (by decide)).trans (e8 _ (by decide)))
      · have w8 := g6 z
        refine ⟨fun y => ?_, fun y => ?_⟩
        · rcases w8.2.1 with ⟨u1, _⟩ | ⟨u1, _⟩ <;> omega
        · have := w8.2.2 y
          omega
  · have eq : qI (σ fT_kinds 0) b a = b := by omega
    rw [decide_eq_false cq, if_pos b2i_f, ck_ok _ (by omega), eq, e_r_testShape_46, if_pos rfl]
    obtain ⟨σ', τ', e1, e2, f4, e3⟩ := T_say E0 P0 J0 b0 (d := d) (by omega) hT0 hbN hj0 n0 t0 i0
    rw [p0] at e1 e2
    rw [j0] at e2
    rw [e1, e2]
    obtain ⟨g1, g2, g3, g4, g5, g6, g7, g8, g9, g10⟩ := e3
    rw [j0] at g8 g9 g10
    rw [p0] at g10
    refine ⟨σ', τ', rfl, rfl, wrap σ' τ' ⟨g1, g2, g3, g4, g5, g6, g7, g8⟩ g9 g10, fun hn z => ?_⟩
    rw [f4]
    exact ⟨by decide, by decide⟩

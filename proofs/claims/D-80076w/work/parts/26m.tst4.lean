/-! a test, model -/
def teRoM (σ0 : ga_S) (ik nk : Int) (now : Bool) (σ3 : ga_S) (a b q : Int) (τ : ga_S) : Prop :=
  (σ3 fR_form 0 0 = 4 ∧ τ fM_qForm 0 q = 5 ∧ τ fM_qNot 0 q = 0 ∧ ∀ i0, syL σ0 ik nk a b (a + 1) = [i0] → syRoM σ0 ik nk a b q τ i0) ∨
  (τ fM_qNot 0 q = σ3 fR_isNot 0 0 ∧ τ fM_qThing 0 q = mT (teV σ0 ik nk σ3) ∧
   ((σ3 fR_form 0 0 = 1 ∧ τ fM_qForm 0 q = 4 ∧ τ fM_qWhat 0 q = σ3 fR_placeSort 0 0 ∧ τ fM_qOther 0 q = mT (thV σ0 ik nk (σ3 fR_placeFrom 0 0) (σ3 fR_placeTo 0 0))) ∨
    (σ3 fR_form 0 0 = 0 ∧ τ fM_qForm 0 q = 3 ∧ (teV σ0 ik nk σ3 ≠ -1 → ∀ x, aL σ0 (teNm σ0 σ3 b) (kdT σ0 ik nk (teV σ0 ik nk σ3)) (teNt σ3) (!now) = [x] → τ fM_qWhat 0 q = x)) ∨
    (σ3 fR_form 0 0 = 3 ∧ ((σ0 fT_kinds 0 (σ3 fR_behindFrom 0 0) = 60 ∧ τ fM_qForm 0 q = 1) ∨ (σ0 fT_kinds 0 (σ3 fR_behindFrom 0 0) = 61 ∧ τ fM_qForm 0 q = 2)) ∧ τ fM_qProperty 0 q = (if teV σ0 ik nk σ3 ≠ -1 ∧ tePr σ0 ik nk σ3 false = true then tePn σ0 σ3 else -1) ∧ τ fM_qWhat 0 q = nuT σ0 (b - 1)) ∨
    (σ3 fR_form 0 0 = 2 ∧ τ fM_qForm 0 q = 0 ∧ τ fM_qProperty 0 q = (if teV σ0 ik nk σ3 ≠ -1 ∧ tePr σ0 ik nk σ3 false = true then tePn σ0 σ3 else -1) ∧ (teV σ0 ik nk σ3 ≠ -1 ∧ tePr σ0 ik nk σ3 false = true → vlRoM σ0 (σ3 fR_behindFrom 0 0) b q τ))))
def tstM : List Nat := qL ++ [fM_bestFault, fM_bestPlace, fM_bestRank, fM_foundAdjective, fM_matches]
section
variable {σ0 τ0 : ga_S} {f : Int} {N : Nat}
/-- where the thing is wrong, what stands behind it does not count -/
theorem th_min (E : E0 σ0 τ0 f N) {ik nk a b t : Int} (S : thS σ0 N a b) (h : thV σ0 ik nk a b = -1) (hb : b ≤ t) (ht : t ≤ N) (x : Int) : min (thC σ0 ik nk a b) (min x (cd σ0 t 2)) = min (thC σ0 ik nk a b) x := by
  have e : thC σ0 ik nk a b = cd σ0 (thW σ0 a b) 2 := by unfold thC; rw [if_pos h]
  have w := thW_r S
  have l := cd_lt E.2.1 (thW_t S).1 (show thW σ0 a b < t by omega) ht (r := 2) (s := 2) (by omega) (by omega)
  rw [e]
  omega
theorem m_testMeant {τ : ga_S} (E : E0 σ0 τ0 f N) (K : KM τ0 τ) {c : Int} (hF : GT τ c) {a b j ik nk q : Int} {now : Bool} {σ3 : ga_S} (ha : 0 ≤ a) (hab : a ≤ b) (hb : b ≤ N) (T : tRw σ3 τ0 f a b j) (kk : σ3 fT_kinds 0 = σ0 fT_kinds 0) (hI : τ fM_itKind 0 0 = ik) (hn : τ fM_nounKind 0 0 = nk) (kI : kO σ0 ik) (kN : kO σ0 nk) (hm : τ0 fM_runs 0 0 ≤ 2600) (hj : 0 ≤ j ∧ j < 1700) (hq : 0 ≤ q ∧ q < 2400) {d : Nat} (hd : 7 ≤ d) : ∃ τ', c_m_testMeant d τ j q (b2i now) = some (0, τ') ∧ fr tstM τ τ' ∧ KM τ0 τ' ∧ qKp q τ τ' ∧ GT τ' (min c (teCd σ0 ik nk now σ3 a b)) ∧ teRoM σ0 ik nk now σ3 a b q τ' := by
  obtain ⟨d, rfl⟩ : ∃ e, d = e + 1 := ⟨d - 1, by omega⟩
  have hf := E.1.1
  have hN := E.1.2.1
  have nB := T.2.1.1
  have nN : τ0 fM_tNot 0 j = 0 ∨ τ0 fM_tNot 0 j = 1 := by
    rcases T.1 with z | z
    · exact Or.inl z.2.2.1
    · rw [z.1]; exact nB
  obtain ⟨τ1, e1⟩ : ∃ x, x = ga_up (ga_up τ fM_qForm 0 q (τ0 fM_tForm 0 j)) fM_qNot 0 q (τ0 fM_tNot 0 j) := ⟨_, rfl⟩
  have f1 : fr [fM_qForm, fM_qNot] τ τ1 := by rw [e1]; exact fr_trans (fr_u (by decide)) (fr_u (by decide))
  have q1 : qKp q τ τ1 := by rw [e1]; exact qKp_t (qKp_u _ _ _ _) (qKp_u _ _ _ _)
  have K1 := KM_f K f1 (by decide)
  have F1 := GT_f hF f1 (by decide)
  have hI1 : τ1 fM_itKind 0 0 = ik := by rw [f1 _ (by decide)]; exact hI
  have hn1 : τ1 fM_nounKind 0 0 = nk := by rw [f1 _ (by decide)]; exact hn
  have qF1 : τ1 fM_qForm 0 q = τ0 fM_tForm 0 j := by rw [e1, up_F (by decide), up_eq]
  have qN1 : τ1 fM_qNot 0 q = τ0 fM_tNot 0 j := by rw [e1, up_eq]
  have K' : ∀ G, G ∉ ckM → τ G = τ0 G := K
  rw [e_m_testMeant, ck_ok _ hj, ck_ok _ hq, ck_ok _ hj, ck_ok _ hq, K' fM_tNot (by decide), z1_ok _ nN, ck_ok _ hj, K' fM_tForm (by decide), ← e1]
  by_cases c4 : σ3 fR_form 0 0 = 4
  · have z := T.1.resolve_right (fun z => by omega)
    obtain ⟨τ2, g1, g2, g3, g4, g5⟩ := m_sayings E (τ := τ1) (a := a) (b := b) (q := q) ha hab hb hq kI kN K1 hI1 hn1 (d := d) (by omega)
    obtain ⟨n, en⟩ : ∃ x : Int, x = ((syL σ0 ik nk a b (a + 1)).length : Int) := ⟨_, rfl⟩
    rw [← en] at g1
    obtain ⟨τ3, τ4, y1, y2, y3, y4, y5, y6⟩ := m_two E g2 (GT_f F1 g3 (by decide)) (a := a) (t := f + a) (n := n) (by omega) rfl (by omega) (d := d) (by omega)
    have ec : teCd σ0 ik nk now σ3 a b = cnC σ0 a n := by unfold teCd; rw [if_pos c4, ← en]
    have s86 : m_testMeant_86 d τ3 (f + a) (if n < 2 then 1 else 0) = some (0, τ4) := by rw [e_m_testMeant_86, y2]; rfl
    have s68 : m_testMeant_68 d τ2 (f + a) n (if 0 < n then 1 else 0) = some (0, τ4) := by
      rw [e_m_testMeant_68, y1]
      simp only [Option.bind_some]
      rw [if_app (m_testMeant_86 d τ3 (f + a)), s86]
    rw [z.2.1, if_pos rfl, ck_ok _ hj, ck_ok _ hj, K' fM_tFirst (by decide), K' fM_tEnd (by decide), z.2.2.2.1, z.2.2.2.2, g1]
    simp only [Option.bind_some]
    rw [if_app (m_testMeant_68 d τ2 (f + a) n), s68, ec]
    refine ⟨τ4, rfl, fr_trans (fr_sub f1 (by decide)) (fr_trans (fr_sub g3 (by decide)) (fr_sub y3 (by decide))), y4, qKp_t q1 (qKp_t g4 (qKp_f y3 (by decide))), y5, Or.inl ⟨c4, ?_, ?_, fun i0 w => ?_⟩⟩
    · rw [y3 _ (by decide), g3 _ (by decide), qF1]; exact z.2.1
    · rw [y3 _ (by decide), g3 _ (by decide), qN1]; exact z.2.2.1
    · have := g5 i0 w
      unfold syRoM at this ⊢
      rw [y3 _ (by decide), y3 _ (by decide), y3 _ (by decide)]
      exact this
  · obtain ⟨t1, t2, t3, t4, t5, t6, t7, t8, t9, t10⟩ := tRw_0 E T kk ha hb c4
    have tf : τ0 fM_tForm 0 j ≠ 5 := by
      rcases t9 with z | z | z | z
      · rw [(t5 z).2.2.1]; decide
      · rw [(t4 z).2.2.1]; decide
      · rw [(t7 z).1]; decide
      · rcases (t8 z).1 with y | y <;> rw [y.2] <;> decide
    obtain ⟨τ2, g1, g2, g3, g4⟩ := m_meant E K1 F1 t1 t2 hm hI1 hn1 (d := d) (by omega)
    have ev : thV σ0 ik nk (σ3 fR_thingFrom 0 0) (σ3 fR_thingTo 0 0) = teV σ0 ik nk σ3 := rfl
    rw [ev] at g1
    have vr : teV σ0 ik nk σ3 = -1 ∨ thO σ0 ik nk (teV σ0 ik nk σ3) := thV_r E ik nk _ _
    obtain ⟨τ3, e3⟩ : ∃ x, x = ga_up τ2 fM_qThing 0 q (mT (teV σ0 ik nk σ3)) := ⟨_, rfl⟩
    have f3 : fr [fM_qThing] τ2 τ3 := by rw [e3]; exact fr_u (by decide)
    have K3 := KM_f g3 f3 (by decide)
    have F3 := GT_f g4 f3 (by decide)
    have q3 : qKp q τ τ3 := qKp_t q1 (qKp_t (qKp_f g2 (by decide)) (by rw [e3]; exact qKp_u _ _ _ _))
    have f13 : fr (fM_qThing :: ntM) τ1 τ3 := fr_trans (fr_sub g2 (by decide)) (fr_sub f3 (by decide))
    have fr3 : fr tstM τ τ3 := fr_trans (fr_sub f1 (by decide)) (fr_sub f13 (by decide))
    have qF3 : τ3 fM_qForm 0 q = τ0 fM_tForm 0 j := by rw [f13 _ (by decide)]; exact qF1
    have qN3 : τ3 fM_qNot 0 q = σ3 fR_isNot 0 0 := by rw [f13 _ (by decide), qN1]; exact t10
    have qT3 : τ3 fM_qThing 0 q = mT (teV σ0 ik nk σ3) := by rw [e3, up_eq]
    have hI3 : τ3 fM_itKind 0 0 = ik := by rw [f13 _ (by decide)]; exact hI1
    have hn3 : τ3 fM_nounKind 0 0 = nk := by rw [f13 _ (by decide)]; exact hn1
    have K2' : ∀ G, G ∉ ckM → τ2 G = τ0 G := g3
    have ec : teCd σ0 ik nk now σ3 a b = min (thC σ0 ik nk (σ3 fR_thingFrom 0 0) (σ3 fR_thingTo 0 0)) (teC2 σ0 ik nk now σ3 b) := by unfold teCd; rw [if_neg c4]
    rw [if_neg tf, ck_ok _ hj, ck_ok _ hj, K' fM_tThing (by decide), K' fM_tThingRun (by decide), g1]
    simp only [Option.bind_some]
    rw [ck_ok _ hq, ck_ok _ hj, K2' fM_tForm (by decide), ← e3, K2' fM_tRun (by decide), K2' fM_runSize (by decide), K2' fM_runFrom (by decide), K2' fM_tOther (by decide), K2' fM_tOtherRun (by decide), ec, ← Int.min_assoc]
    have le := GT_le g4
    by_cases c0 : σ3 fR_form 0 0 = 0
    · obtain ⟨p1, p2, p3, p4⟩ := t5 c0
      have R := RU_of E.1 p1 hm
      rw [if_pos p3]
      by_cases cv : teV σ0 ik nk σ3 = -1
      · have ec2 : teC2 σ0 ik nk now σ3 b = 1000000 := by unfold teC2; rw [if_neg (by omega), if_pos c0, if_pos cv]
        rw [if_pos ((mT_9 vr).mpr cv), ec2, Int.min_eq_left le]
        exact ⟨τ3, rfl, fr3, K3, q3, F3, Or.inr ⟨qN3, qT3, Or.inr (Or.inl ⟨c0, by rw [qF3]; exact p3, fun z => absurd cv z⟩)⟩⟩
      · have tv := vr.resolve_left cv
        have kr := kdT_r E kI kN tv
        obtain ⟨kd, ekd⟩ : ∃ x, x = kdT σ0 ik nk (teV σ0 ik nk σ3) := ⟨_, rfl⟩
        obtain ⟨l, el⟩ : ∃ x, x = aL σ0 (teNm σ0 σ3 b) kd (teNt σ3) (!now) := ⟨_, rfl⟩
        have eq := (aC_L E (teNm σ0 σ3 b) kd (teNt σ3) (!now)).1
        rw [← el] at eq
        have ec2 : teC2 σ0 ik nk now σ3 b = cnC σ0 (σ3 fR_behindFrom 0 0) (l.length : Int) := by
          unfold teC2
          rw [if_neg (by omega), if_pos c0, if_neg cv, ← ekd, cnC_eq eq]
        -- the readings
        obtain ⟨τ4, x1, x2, x3, x4⟩ : ∃ τ4, (if 3 < τ0 fM_runSize 0 (τ0 fM_tRun 0 j) then m_testMeant_207 d τ3 q (τ0 fM_tRun 0 j) 0 else ga_ck (τ0 fM_tRun 0 j) 2600 (ga_ck (τ0 fM_tRun 0 j) 2600 ((c_m_kindOfThing d τ3 (mT (teV σ0 ik nk σ3))).bind fun q5 => if b2i now = 0 then m_testMeant_190 d q5.2 j q (τ0 fM_tRun 0 j) 1 q5.1 (τ0 fM_runSize 0 (τ0 fM_tRun 0 j)) (τ0 fM_runFrom 0 (τ0 fM_tRun 0 j)) else m_testMeant_190 d q5.2 j q (τ0 fM_tRun 0 j) 0 q5.1 (τ0 fM_runSize 0 (τ0 fM_tRun 0 j)) (τ0 fM_runFrom 0 (τ0 fM_tRun 0 j))))) = m_testMeant_207 d τ4 q (τ0 fM_tRun 0 j) (l.length : Int) ∧ fr adM τ3 τ4 ∧ KM τ0 τ4 ∧ (l ≠ [] → τ4 fM_foundAdjective 0 0 = l.headD 0) := by
          by_cases c3 : 3 < τ0 fM_runSize 0 (τ0 fM_tRun 0 j)
          · have : l = [] := by
              rw [el]
              exact aL_3 E p2 (by rw [R.2.2.1] at c3; exact c3) _ _ _
            rw [if_pos c3, this]
            exact ⟨τ3, rfl, fr_refl _ _, K3, fun z => absurd rfl z⟩
          · obtain ⟨τ4, x1, x2, x3, x4⟩ := m_adjective E K3 p2 R.2.1 R.2.2.1 kr (!now) (!(teNt σ3)) (d := d) (by omega)
            have el' : aL σ0 (nmT σ0 (σ3 fR_behindFrom 0 0) b) (kdT σ0 ik nk (teV σ0 ik nk σ3)) (!(!(teNt σ3))) (!now) = l := by rw [Bool.not_not, el, ekd]; rfl
            rw [el'] at x1 x4
            refine ⟨τ4, ?_, x2, x3, x4⟩
            have tn : τ3 fM_tNot 0 j = b2i (teNt σ3) := by rw [K3 _ (by decide), t10]; exact b2i_nt nB
            have s190 : ∀ x : Int, x = b2i (!now) → m_testMeant_190 d τ3 j q (τ0 fM_tRun 0 j) x (kdT σ0 ik nk (teV σ0 ik nk σ3)) (τ0 fM_runSize 0 (τ0 fM_tRun 0 j)) (τ0 fM_runFrom 0 (τ0 fM_tRun 0 j)) = m_testMeant_207 d τ4 q (τ0 fM_tRun 0 j) (l.length : Int) := by
              intro x hx
              rw [hx, e_m_testMeant_190, ck_ok _ hj, tn]
              have s204 : m_testMeant_204 d τ3 q (τ0 fM_tRun 0 j) (b2i (!(teNt σ3))) (b2i (!now)) (kdT σ0 ik nk (teV σ0 ik nk σ3)) (τ0 fM_runSize 0 (τ0 fM_tRun 0 j)) (τ0 fM_runFrom 0 (τ0 fM_tRun 0 j)) = m_testMeant_207 d τ4 q (τ0 fM_tRun 0 j) (l.length : Int) := by
                rw [e_m_testMeant_204, x1]; rfl
              cases hnt : teNt σ3 with
              | false => rw [hnt] at s204; rw [if_pos b2i_f]; exact s204
              | true => rw [hnt] at s204; rw [if_neg b2i_n]; exact s204
            rw [if_neg c3, ck_ok _ R.1, ck_ok _ R.1, m_kindOfThing E K3 hI3 hn3 tv (by omega)]
            simp only [Option.bind_some]
            cases now with
            | false => rw [if_pos b2i_f, s190 1 rfl]
            | true => rw [if_neg b2i_n, s190 0 rfl]
        obtain ⟨n, en⟩ : ∃ x : Int, x = (l.length : Int) := ⟨_, rfl⟩
        have hn0 : 0 ≤ n := by omega
        obtain ⟨τ5, τ6, y1, y2, y3, y4, y5, y6⟩ := m_two E x3 (GT_f F3 x2 (by decide)) (a := σ3 fR_behindFrom 0 0) (t := f + σ3 fR_behindFrom 0 0) (n := n) (frB_t p2) rfl hn0 (d := d) (by omega)
        obtain ⟨w, ew⟩ : ∃ x : Int, x = if 0 < n then τ6 fM_foundAdjective 0 0 else 0 := ⟨_, rfl⟩
        obtain ⟨τ7, e7⟩ : ∃ x, x = ga_up τ6 fM_qWhat 0 q w := ⟨_, rfl⟩
        have f7 : fr [fM_qWhat] τ6 τ7 := by rw [e7]; exact fr_u (by decide)
        have s273 : m_testMeant_273 d τ6 w q = some (0, τ7) := by rw [e_m_testMeant_273, ck_ok _ hq, e7]
        have s243 : m_testMeant_243 d τ5 q (τ0 fM_tRun 0 j) n (if n < 2 then 1 else 0) = some (0, τ7) := by
          rw [e_m_testMeant_243, ck_ok _ R.1, y6 fM_runFrom (by decide), x3 fM_runFrom (by decide), R.2.1, y2]
          simp only [Option.bind_some]
          by_cases z : 0 < n
          · rw [if_pos z] at ew
            rw [if_pos z, ← ew, s273]
          · rw [if_neg z] at ew
            rw [ew] at s273
            rw [if_neg z, s273]
        have s207 : m_testMeant_207 d τ4 q (τ0 fM_tRun 0 j) n = some (0, τ7) := by
          rw [e_m_testMeant_207, if_app (m_testMeant_220 d τ4 q (τ0 fM_tRun 0 j) n), e_m_testMeant_220, ck_ok _ R.1, x3 fM_runFrom (by decide), R.2.1, y1]
          simp only [Option.bind_some]
          rw [if_app (m_testMeant_243 d τ5 q (τ0 fM_tRun 0 j) n), s243]
        rw [if_neg (fun z => cv ((mT_9 vr).mp z)), ck_ok _ hj, ck_ok _ R.1, x1, ← en, s207, ec2, ← en]
        refine ⟨τ7, rfl, fr_trans fr3 (fr_trans (fr_sub x2 (by decide)) (fr_trans (fr_sub y3 (by decide)) (fr_sub f7 (by decide)))), KM_f y4 f7 (by decide), qKp_t q3 (qKp_t (qKp_f x2 (by decide)) (qKp_t (qKp_f y3 (by decide)) (by rw [e7]; exact qKp_u _ _ _ _))), GT_f y5 f7 (by decide), Or.inr ⟨?_, ?_, Or.inr (Or.inl ⟨c0, ?_, fun _ x hx => ?_⟩)⟩⟩
        · rw [f7 _ (by decide), y3 _ (by decide), x2 _ (by decide)]; exact qN3
        · rw [f7 _ (by decide), y3 _ (by decide), x2 _ (by decide)]; exact qT3
        · rw [f7 _ (by decide), y3 _ (by decide), x2 _ (by decide), qF3]; exact p3
        · rw [← ekd, ← el] at hx
          have n1 : 0 < n := by rw [en, hx]; simp
          rw [if_pos n1, y3 _ (by decide), x4 (by rw [hx]; simp), hx] at ew
          rw [e7, up_eq, ew]; rfl
    · have tf3 : τ0 fM_tForm 0 j ≠ 3 := by
        rcases t9 with z | z | z | z
        · exact absurd z c0
        · rw [(t4 z).2.2.1]; decide
        · rw [(t7 z).1]; decide
        · rcases (t8 z).1 with y | y <;> rw [y.2] <;> decide
      rw [if_neg tf3, ck_ok _ hj]
      by_cases c1 : σ3 fR_form 0 0 = 1
      · obtain ⟨p1, p2, p3, p4, p5⟩ := t4 c1
        obtain ⟨τ4, x1, x2, x3, x4⟩ := m_meant E K3 F3 p1 p2 hm hI3 hn3 (d := d) (by omega)
        obtain ⟨τ5, e5⟩ : ∃ x, x = ga_up (ga_up τ4 fM_qOther 0 q (mT (thV σ0 ik nk (σ3 fR_placeFrom 0 0) (σ3 fR_placeTo 0 0)))) fM_qWhat 0 q (σ3 fR_placeSort 0 0) := ⟨_, rfl⟩
        have f5 : fr [fM_qOther, fM_qWhat] τ4 τ5 := by rw [e5]; exact fr_trans (fr_u (by decide)) (fr_u (by decide))
        have ec2 : teC2 σ0 ik nk now σ3 b = thC σ0 ik nk (σ3 fR_placeFrom 0 0) (σ3 fR_placeTo 0 0) := by unfold teC2; rw [if_pos c1]
        rw [if_pos p3, ck_ok _ hj, ck_ok _ hj, x1]
        simp only [Option.bind_some]
        rw [ck_ok _ hq, ck_ok _ hj, ck_ok _ hq, x3 fM_tWay (by decide), p4, ← e5, ec2]
        refine ⟨τ5, rfl, fr_trans fr3 (fr_trans (fr_sub x2 (by decide)) (fr_sub f5 (by decide))), KM_f x3 f5 (by decide), qKp_t q3 (qKp_t (qKp_f x2 (by decide)) (by rw [e5]; exact qKp_t (qKp_u _ _ _ _) (qKp_u _ _ _ _))), GT_f x4 f5 (by decide), Or.inr ⟨?_, ?_, Or.inl ⟨c1, ?_, ?_, ?_⟩⟩⟩
        · rw [f5 _ (by decide), x2 _ (by decide)]; exact qN3
        · rw [f5 _ (by decide), x2 _ (by decide)]; exact qT3
        · rw [f5 _ (by decide), x2 _ (by decide), qF3]; exact p3
        · rw [e5, up_eq]
        · rw [e5, up_F (by decide), up_eq]
      · have tf4 : τ0 fM_tForm 0 j ≠ 4 := by
          rcases t9 with z | z | z | z
          · exact absurd z c0
          · exact absurd z c1
          · rw [(t7 z).1]; decide
          · rcases (t8 z).1 with y | y <;> rw [y.2] <;> decide
        have e23 : σ3 fR_form 0 0 = 2 ∨ σ3 fR_form 0 0 = 3 := by omega
        obtain ⟨p1, p2, p3⟩ := t6 e23
        have R := RU_of E.1 p1 hm
        obtain ⟨τ4, x1, x2, x3, x4⟩ := m_propertyMeant E K3 F3 hI3 hn3 kI kN vr R (d := d) (by omega)
        have x1' : c_m_propertyMeant d τ3 (τ0 fM_tRun 0 j) (mT (teV σ0 ik nk σ3)) = some (if teV σ0 ik nk σ3 ≠ -1 ∧ tePr σ0 ik nk σ3 false = true then tePn σ0 σ3 else -1, τ4) := x1
        have x4' : GT τ4 (min (min c (thC σ0 ik nk (σ3 fR_thingFrom 0 0) (σ3 fR_thingTo 0 0))) (if tePr σ0 ik nk σ3 false = true then 1000000 else cd σ0 (σ3 fR_propertyFrom 0 0) 2)) := x4
        obtain ⟨P, eP⟩ : ∃ x, x = if teV σ0 ik nk σ3 ≠ -1 ∧ tePr σ0 ik nk σ3 false = true then tePn σ0 σ3 else -1 := ⟨_, rfl⟩
        rw [← eP] at x1'
        obtain ⟨τ5, e5⟩ : ∃ x, x = ga_up τ4 fM_qProperty 0 q P := ⟨_, rfl⟩
        have f5 : fr [fM_qProperty] τ4 τ5 := by rw [e5]; exact fr_u (by decide)
        have K5 := KM_f x3 f5 (by decide)
        have F5 := GT_f x4' f5 (by decide)
        have q5 : qKp q τ τ5 := qKp_t q3 (qKp_t (qKp_f x2 (by decide)) (by rw [e5]; exact qKp_u _ _ _ _))
        have f35 : fr (fM_qProperty :: ntM) τ3 τ5 := fr_trans (fr_sub x2 (by decide)) (fr_sub f5 (by decide))
        have qP5 : τ5 fM_qProperty 0 q = P := by rw [e5, up_eq]
        have pr5 := e0_dN E (nmT σ0 (σ3 fR_propertyFrom 0 0) (σ3 fR_propertyTo 0 0)) 5
        have epn : dN σ0 (nmT σ0 (σ3 fR_propertyFrom 0 0) (σ3 fR_propertyTo 0 0)) 5 = tePn σ0 σ3 := rfl
        rw [epn] at pr5
        have m5 : mxN σ0 5 = σ0 fW_properties 0 0 := rfl
        have wp := e0_p E
        have wp2 := wp.2.1
        rw [if_neg tf4, ck_ok _ hj, x1']
        simp only [Option.bind_some]
        rw [ck_ok _ hq, ← e5]
        by_cases c3 : σ3 fR_form 0 0 = 3
        · obtain ⟨p4, p5, p6, p7, p8⟩ := t8 c3
          have tf0 : τ0 fM_tForm 0 j ≠ 0 := by rcases p4 with y | y <;> rw [y.2] <;> decide
          obtain ⟨τ6, y1, y2, y3, y4⟩ := m_numberMeant E K5 F5 R (d := d) (by omega)
          have nr := nuT_r E (k := b - 1) (by omega) p6
          obtain ⟨τ7, e7⟩ : ∃ x, x = ga_up τ6 fM_qWhat 0 q (nuT σ0 (b - 1)) := ⟨_, rfl⟩
          have f7 : fr [fM_qWhat] τ6 τ7 := by rw [e7]; exact fr_u (by decide)
          have s392 : m_testMeant_392 d τ5 j q = some (0, τ7) := by
            rw [e_m_testMeant_392, ck_ok _ hj, K5 fM_tForm (by decide), if_neg tf0, ck_ok _ hj, K5 fM_tRun (by decide), y1]
            simp only [Option.bind_some]
            rw [ck_ok _ hj, y3 fM_tWhat (by decide), p5, ck_ok _ (by omega), ck_ok _ hq, y3 fM_word (by decide), nr.2.2, w32_ok (by omega), ← e7]
          have run : (if P = -1 then m_testMeant_392 d τ5 j q else ga_ck j 1700 (if τ4 fM_tForm 0 j = 0 then ga_ck j 1700 (ga_ck j 1700 (ga_ck P 12 ((c_m_whatMeant d τ5 (τ4 fM_tWhat 0 j) (τ4 fM_tOtherRun 0 j) (τ4 fM_propertyType 0 P) q).bind fun q3 => some (0, q3.2)))) else m_testMeant_392 d τ5 j q)) = some (0, τ7) := by
            by_cases z : P = -1
            · rw [if_pos z, s392]
            · rw [if_neg z, ck_ok _ hj, x3 fM_tForm (by decide), if_neg tf0, s392]
          have ec2 : teC2 σ0 ik nk now σ3 b = if tePr σ0 ik nk σ3 true = true then 1000000 else cd σ0 (σ3 fR_propertyFrom 0 0) 2 := by unfold teC2; rw [if_neg c1, if_neg c0, if_pos c3]
          have y4' : GT τ6 (min (min c (thC σ0 ik nk (σ3 fR_thingFrom 0 0) (σ3 fR_thingTo 0 0))) (teC2 σ0 ik nk now σ3 b)) := by
            rw [ec2]
            have cr := cd_r E.2.1 (frB_t p2) (r := 2) (by omega)
            have nm := nu_min (σ0 := σ0) (c := min c (thC σ0 ik nk (σ3 fR_thingFrom 0 0) (σ3 fR_thingTo 0 0))) (x := cd σ0 (σ3 fR_propertyFrom 0 0) 2) (by omega) ik nk (σ3 fR_propertyFrom 0 0) (σ3 fR_propertyTo 0 0) (teV σ0 ik nk σ3)
            unfold tePr at y4 ⊢
            rw [nm] at y4
            exact y4
          rw [run]
          refine ⟨τ7, rfl, fr_trans fr3 (fr_trans (fr_sub f35 (by decide)) (fr_trans (fr_sub y2 (by decide)) (fr_sub f7 (by decide)))), KM_f y3 f7 (by decide), qKp_t q5 (qKp_t (qKp_f y2 (by decide)) (by rw [e7]; exact qKp_u _ _ _ _)), GT_f y4' f7 (by decide), Or.inr ⟨?_, ?_, Or.inr (Or.inr (Or.inl ⟨c3, ?_, ?_, ?_⟩))⟩⟩
          · rw [f7 _ (by decide), y2 _ (by decide), f35 _ (by decide)]; exact qN3
          · rw [f7 _ (by decide), y2 _ (by decide), f35 _ (by decide)]; exact qT3
          · rw [f7 _ (by decide), y2 _ (by decide), f35 _ (by decide), qF3]; exact p4
          · rw [f7 _ (by decide), y2 _ (by decide), qP5]; exact eP
          · rw [e7, up_eq]
        · have c2 : σ3 fR_form 0 0 = 2 := by omega
          obtain ⟨p4, p5, p6, p7, p8, p9⟩ := t7 c2
          have s392 : m_testMeant_392 d τ5 j q = some (0, τ5) := by
            rw [e_m_testMeant_392, ck_ok _ hj, K5 fM_tForm (by decide), if_pos p4]
          have row : ∀ τ', fr vlM τ5 τ' → (teV σ0 ik nk σ3 ≠ -1 ∧ tePr σ0 ik nk σ3 false = true → vlRoM σ0 (σ3 fR_behindFrom 0 0) b q τ') → teRoM σ0 ik nk now σ3 a b q τ' := by
            intro τ' h hv
            refine Or.inr ⟨?_, ?_, Or.inr (Or.inr (Or.inr ⟨c2, ?_, ?_, hv⟩))⟩
            · rw [h _ (by decide), f35 _ (by decide)]; exact qN3
            · rw [h _ (by decide), f35 _ (by decide)]; exact qT3
            · rw [h _ (by decide), f35 _ (by decide), qF3]; exact p4
            · rw [h _ (by decide), qP5]; exact eP
          by_cases cP : teV σ0 ik nk σ3 ≠ -1 ∧ tePr σ0 ik nk σ3 false = true
          · have pn : tePn σ0 σ3 ≠ -1 := by
              have cp := cP.2
              unfold tePr prB at cp
              simp only [Bool.and_eq_true] at cp
              exact of_decide_eq_true cp.1.1
            rw [if_pos cP] at eP
            rw [if_pos cP.2, Int.min_eq_left le] at F5
            obtain ⟨τ6, y1, y2, y3, y4, y5, y6⟩ := m_whatMeant E K5 F5 (q := q) (at' := σ3 fR_behindFrom 0 0) (to := b) (r := τ0 fM_tOtherRun 0 j) (σ0 fW_propertyTypes 0 (tePn σ0 σ3)) hq (by omega) (by
              rcases p9 with p9 | p9
              · exact Or.inl p9.1
              · exact Or.inr (RU_of E.1 p9 hm)) (d := d) (by omega)
            have ec2 : teC2 σ0 ik nk now σ3 b = if vlB σ0 (σ0 fW_propertyTypes 0 (tePn σ0 σ3)) (σ3 fR_behindFrom 0 0) b = true then 1000000 else cd σ0 (σ3 fR_behindFrom 0 0) 2 := by unfold teC2; rw [if_neg c1, if_neg c0, if_neg c3, if_pos cP.2]
            rw [if_neg (by rw [eP]; exact pn), ck_ok _ hj, x3 fM_tForm (by decide), if_pos p4, ck_ok _ hj, ck_ok _ hj, ck_ok _ (by omega), x3 fM_tWhat (by decide), p5, x3 fM_tOtherRun (by decide), x3 fM_propertyType (by decide), eP, (wp.2.2.2.1 _ (by omega) (by omega)).2.2, y1, ec2]
            exact ⟨τ6, rfl, fr_trans fr3 (fr_trans (fr_sub f35 (by decide)) (fr_sub y2 (by decide))), y3, qKp_t q5 y4, y5, row τ6 y2 (fun _ => y6)⟩
          · rw [if_neg cP] at eP
            have gt : GT τ5 (min (min c (thC σ0 ik nk (σ3 fR_thingFrom 0 0) (σ3 fR_thingTo 0 0))) (teC2 σ0 ik nk now σ3 b)) := by
              by_cases cp : tePr σ0 ik nk σ3 false = true
              · have cv : teV σ0 ik nk σ3 = -1 := Classical.byContradiction fun z => cP ⟨z, cp⟩
                have ec2 : teC2 σ0 ik nk now σ3 b = if vlB σ0 (σ0 fW_propertyTypes 0 (tePn σ0 σ3)) (σ3 fR_behindFrom 0 0) b = true then 1000000 else cd σ0 (σ3 fR_behindFrom 0 0) 2 := by unfold teC2; rw [if_neg c1, if_neg c0, if_neg c3, if_pos cp]
                rw [if_pos cp, Int.min_eq_left le] at F5
                rw [ec2]
                by_cases z : vlB σ0 (σ0 fW_propertyTypes 0 (tePn σ0 σ3)) (σ3 fR_behindFrom 0 0) b = true
                · rw [if_pos z, Int.min_eq_left le]; exact F5
                · have tm := th_min E t2 cv p8 (t := σ3 fR_behindFrom 0 0) (by omega) 1000000
                  have cr := cd_r E.2.1 (t := σ3 fR_behindFrom 0 0) (r := 2) (by omega) (by omega)
                  have tl : thC σ0 ik nk (σ3 fR_thingFrom 0 0) (σ3 fR_thingTo 0 0) ≤ 1000000 := by
                    have := cd_r E.2.1 (thW_t t2) (r := 2) (by omega)
                    unfold thC
                    split <;> omega
                  rw [if_neg z]
                  have : min (min c (thC σ0 ik nk (σ3 fR_thingFrom 0 0) (σ3 fR_thingTo 0 0))) (cd σ0 (σ3 fR_behindFrom 0 0) 2) = min c (thC σ0 ik nk (σ3 fR_thingFrom 0 0) (σ3 fR_thingTo 0 0)) := by
                    omega
                  rw [this]; exact F5
              · have ec2 : teC2 σ0 ik nk now σ3 b = cd σ0 (σ3 fR_propertyFrom 0 0) 2 := by unfold teC2; rw [if_neg c1, if_neg c0, if_neg c3, if_neg cp]
                rw [if_neg cp] at F5
                rw [ec2]; exact F5
            rw [if_pos eP, s392]
            exact ⟨τ5, rfl, fr_trans fr3 (fr_sub f35 (by decide)), K5, q5, gt, row τ5 (fr_refl _ _) (fun z => absurd z cP)⟩
end

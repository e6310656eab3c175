/-! a phrase, model -/
def xL : List Nat := [fM_qPhrase, fM_qTest]
def xKp (x : Int) (τ τ' : ga_S) : Prop := ∀ F, F ∈ xL → ∀ k, k ≠ x → τ' F 0 k = τ F 0 k
theorem xKp_t {x : Int} {τ τ1 τ2 : ga_S} (a : xKp x τ τ1) (b : xKp x τ1 τ2) : xKp x τ τ2 := fun F h n hn => (b F h n hn).trans (a F h n hn)
theorem xKp_f {x : Int} {τ τ' : ga_S} {L : List Nat} (h : fr L τ τ') (hL : xL.all (fun F => !(L.contains F)) = true) : xKp x τ τ' := fun F hF n _ => by rw [fr_no h hL hF]
theorem xKp_u (x : Int) (τ : ga_S) (F : Nat) (v : Int) : xKp x τ (ga_up τ F 0 x v) := fun F' _ n hn => by
  by_cases c : F' = F
  · rw [c, up_i hn]
  · rw [up_F c]
def phRoM (σ0 : ga_S) (ik nk : Int) (σ3 : ga_S) (a b q : Int) (τ : ga_S) : Prop :=
  (σ0 fT_kinds 0 a = 52 ∧ τ fM_qWhat 0 q = saP σ0 a ∧ τ fM_qLong 0 q = σ0 fT_lengths 0 (a + 1) - 2) ∨
  (σ0 fT_kinds 0 a = 53 ∧ teRoM σ0 ik nk true σ3 (a + 1) b q τ) ∨
  (σ0 fT_kinds 0 a = 54 ∧ τ fM_qThing 0 q = mT (pmV σ0 ik nk σ3) ∧ τ fM_qOther 0 q = mT (teV σ0 ik nk σ3)) ∨
  ((σ0 fT_kinds 0 a = 55 ∨ σ0 fT_kinds 0 a = 56) ∧ τ fM_qThing 0 q = mT (teV σ0 ik nk σ3) ∧ τ fM_qProperty 0 q = (if teV σ0 ik nk σ3 ≠ -1 ∧ tePr σ0 ik nk σ3 false = true then tePn σ0 σ3 else -1) ∧ τ fM_qWhat 0 q = nuT σ0 (σ3 fR_behindFrom 0 0)) ∨
  σ0 fT_kinds 0 a = 57 ∨
  (σ0 fT_kinds 0 a = 58 ∧ ((σ3 fR_thingFrom 0 0 = -1 ∧ (acN σ0 false (σ3 fR_propertyFrom 0 0) (σ3 fR_propertyTo 0 0) = 1 → ac1 σ0 false (σ3 fR_propertyFrom 0 0) (σ3 fR_propertyTo 0 0) (τ fM_qProperty 0 q) (τ fM_qThing 0 q) ∧ τ fM_qNot 0 q = if τ fM_qThing 0 q = -1 then 1 else 0)) ∨ (σ3 fR_thingFrom 0 0 ≠ -1 ∧ τ fM_qProperty 0 q = tyX σ0 σ3 ∧ τ fM_qThing 0 q = mT (teV σ0 ik nk σ3) ∧ τ fM_qNot 0 q = 0)))
/-- the model's number for a sort of phrase -/
def phW (k : Int) : Int := if k = 57 then 6 else if k = 58 then 5 else k - 52
def phmL : List Nat := qL ++ xL ++ [fM_bestFault, fM_bestPlace, fM_bestRank, fM_foundAdjective, fM_matches, fM_isDry, fM_nounObject, fM_inside, fM_insides, fM_tried, fM_triedObject]
section
variable {σ0 τ0 : ga_S} {f : Int} {N : Nat}
theorem m_phraseMeant {τ : ga_S} (E : E0 σ0 τ0 f N) (I : IN σ0) (hk : rKeys τ0) (eS : τ0 fM_story 0 = σ0 fT_bytes 0) (K : KM τ0 τ) {c : Int} (hF : GT τ c) {a b i j ik nk q x : Int} {σ3 : ga_S} (ha : 0 ≤ a) (hab : a < b) (hb : b ≤ N) (T : pRw σ3 τ0 f a b i j) (kk : σ3 fT_kinds 0 = σ0 fT_kinds 0) (hI : τ fM_itKind 0 0 = ik) (hn : τ fM_nounKind 0 0 = nk) (kI : kO σ0 ik) (kN : kO σ0 nk) (hm : τ0 fM_runs 0 0 ≤ 2600) (hj : 0 ≤ j ∧ j < 1700) (hi : 0 ≤ i ∧ i < 1700) (hq : 0 ≤ q ∧ q < 2400) (hx : 0 ≤ x ∧ x < 2000) (hY : τ fM_isDry 0 0 = 0) {d : Nat} (hd : 8 ≤ d) : ∃ τ', c_m_phraseMeant d τ i q x = some (0, τ') ∧ fr phmL τ τ' ∧ KM τ0 τ' ∧ qKp q τ τ' ∧ xKp x τ τ' ∧ τ' fM_qPhrase 0 x = phW (σ0 fT_kinds 0 a) ∧ τ' fM_qTest 0 x = q ∧ τ' fM_isDry 0 0 = 0 ∧ GT τ' (min c (phCd σ0 ik nk σ3 a b)) ∧ phRoM σ0 ik nk σ3 a b q τ' := by
  obtain ⟨d, rfl⟩ : ∃ e, d = e + 1 := ⟨d - 1, by omega⟩
  have hf := E.1.1
  have hN := E.1.2.1
  have hN5 := E.1.2.2.1
  have K' : ∀ G, G ∉ ckM → τ G = τ0 G := K
  have le := GT_le hF
  obtain ⟨r1, r2, r3⟩ := T
  rw [kk] at r3
  obtain ⟨w, ew⟩ : ∃ z, z = phW (σ0 fT_kinds 0 a) := ⟨_, rfl⟩
  have ewp : τ0 fM_pWhat 0 i = w := by
    rw [ew]
    unfold phW
    rcases r3 with h | h | h | h | h | h
    · rw [h.1, h.2.1]; decide
    · rw [h.1, h.2.1]; decide
    · rw [h.1, h.2.1]; decide
    · rcases h.1 with g | g
      · rw [g.1, g.2]; decide
      · rw [g.1, g.2]; decide
    · rw [h.1, h.2]; decide
    · rw [h.1, h.2.1]; decide
  obtain ⟨τ1, e1⟩ : ∃ z, z = ga_up (ga_up τ fM_qPhrase 0 x w) fM_qTest 0 x q := ⟨_, rfl⟩
  have f1 : fr [fM_qPhrase, fM_qTest] τ τ1 := by rw [e1]; exact fr_trans (fr_u (by decide)) (fr_u (by decide))
  have x1 : xKp x τ τ1 := by rw [e1]; exact xKp_t (xKp_u _ _ _ _) (xKp_u _ _ _ _)
  have q1 : qKp q τ τ1 := qKp_f f1 (by decide)
  have K1 := KM_f K f1 (by decide)
  have K1' : ∀ G, G ∉ ckM → τ1 G = τ0 G := K1
  have F1 := GT_f hF f1 (by decide)
  have hI1 : τ1 fM_itKind 0 0 = ik := by rw [f1 _ (by decide)]; exact hI
  have hn1 : τ1 fM_nounKind 0 0 = nk := by rw [f1 _ (by decide)]; exact hn
  have hY1 : τ1 fM_isDry 0 0 = 0 := by rw [f1 _ (by decide)]; exact hY
  -- what holds of any store behind this one
  have fin : ∀ {L : List Nat} {τ'}, fr L τ1 τ' → fM_qPhrase ∉ L ∧ fM_qTest ∉ L → xL.all (fun F => !(L.contains F)) = true → xKp x τ τ' ∧ τ' fM_qPhrase 0 x = w ∧ τ' fM_qTest 0 x = q := by
    intro L τ' h hL hx2
    refine ⟨xKp_t x1 (xKp_f h hx2), ?_, ?_⟩
    · rw [h _ hL.1, e1, up_F (by decide), up_eq]
    · rw [h _ hL.2, e1, up_eq]
  have run0 := e_m_phraseMeant d τ i q x
  rw [K' fM_pWhat (by decide), K' fM_pTest (by decide), ewp, r1, ← e1] at run0
  rw [ck_ok _ hi, ck_ok _ hi, ck_ok _ hx, ck_ok _ hx, ck_ok _ hi] at run0
  rw [← ew]
  rcases r3 with h | h | h | h | h | h
  · -- say
    obtain ⟨h1, h2, h3, h4, h5⟩ := h
    have w0 : w = 0 := by rw [← ewp]; exact h2
    have tk := E.2.1.2.1 (a + 1) (by omega) (by omega)
    have t2 := E.2.1.2.2.2.2.2 (a + 1) (by omega) (by omega) h4
    have sz := E.2.1.1.1
    obtain ⟨τ2, e2⟩ : ∃ z, z = ga_up (ga_up τ1 fM_qWhat 0 q (saP σ0 a)) fM_qLong 0 q (σ0 fT_lengths 0 (a + 1) - 2) := ⟨_, rfl⟩
    have f2 : fr [fM_qWhat, fM_qLong] τ1 τ2 := by rw [e2]; exact fr_trans (fr_u (by decide)) (fr_u (by decide))
    have q2 : qKp q τ1 τ2 := by rw [e2]; exact qKp_t (qKp_u _ _ _ _) (qKp_u _ _ _ _)
    have K2 := KM_f K1 f2 (by decide)
    obtain ⟨τ3, g1, g2, g3, g4⟩ := m_says E I hk eS kN (p := saP σ0 a) (e := saE σ0 a) (n := σ0 fT_lengths 0 (a + 1) - 2) (o := -1) (by unfold saE; omega) (by unfold saP; omega) (by omega) rfl (by omega) (fun y y1 y2 => t2.2.2.2 y (by unfold saP at y1; omega) (by unfold saE at y2; omega)) K2 (by rw [f2 _ (by decide)]; exact hn1) (d := d) (by omega)
    have ev : sdV σ0 (σ0 fT_bytes 0) nk (saE σ0 a) (saE σ0 a - saP σ0 a).toNat (saP σ0 a) = saV σ0 nk a := rfl
    rw [ev] at g1
    obtain ⟨τ4, y1, y2, y3, y4⟩ := m_need E g4 (GT_f (GT_f F1 f2 (by decide)) g2 (by decide)) (t := a + 1) (t' := f + (a + 1)) (r := 4) (why := 8) (g := b2i (saV σ0 nk a)) (by omega) rfl (by omega) (by decide) (d := d) (by omega)
    have f14 : fr (fM_qWhat :: fM_qLong :: (saM ++ ntM)) τ1 τ4 := fr_trans (fr_sub f2 (by decide)) (fr_trans (fr_sub g2 (by decide)) (fr_sub y2 (by decide)))
    have fi := fin f14 (by decide) (by decide)
    have pc : phCd σ0 ik nk σ3 a b = if saV σ0 nk a = true then 1000000 else cd σ0 (a + 1) 4 := by unfold phCd; rw [if_pos h1]
    have y4' : GT τ4 (min c (phCd σ0 ik nk σ3 a b)) := by
      rw [pc]
      cases hv : saV σ0 nk a with
      | true => rw [hv, if_neg b2i_n] at y4; rw [if_pos rfl]; exact y4
      | false => rw [hv, if_pos b2i_f] at y4; rw [if_neg (by decide)]; exact y4
    have eP : w32 (τ fM_place 0 (f + (a + 1)) + 1) = saP σ0 a := by
      rw [K' fM_place (by decide), tk.2.2.2, w32_ok (by omega)]; rfl
    have eL : τ fM_length 0 (f + (a + 1)) = σ0 fT_lengths 0 (a + 1) - 2 := by rw [K' fM_length (by decide)]; exact t2.2.2.1
    refine ⟨τ4, ?_, fr_trans (fr_sub f1 (by decide)) (fr_sub f14 (by decide)), y3, qKp_t q1 (qKp_t q2 (qKp_t (qKp_f g2 (by decide)) (qKp_f y2 (by decide)))), fi.1, fi.2.1, fi.2.2, by rw [y2 _ (by decide)]; exact g3, y4', Or.inl ⟨h1, ?_, ?_⟩⟩
    · rw [run0, if_pos w0, ck_ok _ hj, K' fM_tWhat (by decide), h3, ck_ok _ (by omega), ck_ok _ hq, ck_ok _ (by omega), ck_ok _ hq, ck_ok _ (by omega), ck_ok _ (by omega), eP, eL, ← e2, g1]
      simp only [Option.bind_some]
      rw [y1]
      rfl
    · rw [y2 _ (by decide), g2 _ (by decide), e2, up_F (by decide), up_eq]
    · rw [y2 _ (by decide), g2 _ (by decide), e2, up_eq]
  · -- now
    obtain ⟨h1, h2, h3⟩ := h
    have w0 : w = 1 := by rw [← ewp]; exact h2
    obtain ⟨τ2, g1, g2, g3, g4, g5, g6⟩ := m_testMeant E K1 F1 (q := q) (now := true) (σ3 := σ3) (a := a + 1) (b := b) (j := j) (by omega) (by omega) hb h3 kk hI1 hn1 kI kN hm hj hq (d := d) (by omega)
    have g1' : c_m_testMeant d τ1 j q 1 = some (0, τ2) := g1
    have fi := fin g2 (by decide) (by decide)
    have pc : phCd σ0 ik nk σ3 a b = teCd σ0 ik nk true σ3 (a + 1) b := by unfold phCd; rw [if_neg (by omega), if_pos h1]
    refine ⟨τ2, ?_, fr_trans (fr_sub f1 (by decide)) (fr_sub g2 (by decide)), g3, qKp_t q1 g4, fi.1, fi.2.1, fi.2.2, by rw [g2 _ (by decide)]; exact hY1, by rw [pc]; exact g5, Or.inr (Or.inl ⟨h1, g6⟩)⟩
    rw [run0, if_neg (by omega), ck_ok _ hi, if_pos w0, g1']
    rfl
  · -- move
    obtain ⟨h1, h2, h3, h4, h5, h6⟩ := h
    have w0 : w = 2 := by rw [← ewp]; exact h2
    have t3 := thE_k h3 kk
    have t4 := thE_k h4 kk
    have S3 := thE_S (N := N) t3 (by omega) (by omega)
    have S4 := thE_S (N := N) t4 (by omega) (by omega)
    obtain ⟨τ2, g1, g2, g3, g4⟩ := m_meant E K1 F1 t3 S3 hm hI1 hn1 (d := d) (by omega)
    have gV : thV σ0 ik nk (σ3 fR_placeFrom 0 0) (σ3 fR_placeTo 0 0) = pmV σ0 ik nk σ3 := rfl
    have xV : thV σ0 ik nk (σ3 fR_thingFrom 0 0) (σ3 fR_thingTo 0 0) = teV σ0 ik nk σ3 := rfl
    rw [gV] at g1
    have vr : pmV σ0 ik nk σ3 = -1 ∨ thO σ0 ik nk (pmV σ0 ik nk σ3) := thV_r E ik nk _ _
    have m9 := mT_9 vr
    obtain ⟨V, eV⟩ : ∃ z, z = pmV σ0 ik nk σ3 := ⟨_, rfl⟩
    rw [← eV] at g1 vr m9
    obtain ⟨τ3, e3⟩ : ∃ z, z = ga_up τ2 fM_qThing 0 q (mT V) := ⟨_, rfl⟩
    have f3 : fr [fM_qThing] τ2 τ3 := by rw [e3]; exact fr_u (by decide)
    have K3 := KM_f g3 f3 (by decide)
    have F3 := GT_f g4 f3 (by decide)
    have f13 : fr (fM_qThing :: ntM) τ1 τ3 := fr_trans (fr_sub g2 (by decide)) (fr_sub f3 (by decide))
    have hI3 : τ3 fM_itKind 0 0 = ik := by rw [f13 _ (by decide)]; exact hI1
    have hn3 : τ3 fM_nounKind 0 0 = nk := by rw [f13 _ (by decide)]; exact hn1
    have wq : mvC σ0 ik nk σ3 = if (if V = -1 then (1 : Int) else b2i (isB (σ0 fW_parents 0) (kdT σ0 ik nk V) 0)) = 0 then cd σ0 (thW σ0 (σ3 fR_placeFrom 0 0) (σ3 fR_placeTo 0 0)) 2 else 1000000 := by
      unfold mvC
      rw [← eV]
      by_cases v1 : V = -1
      · rw [if_pos v1, if_pos v1, if_neg (by decide)]
      · rw [if_neg v1, if_neg v1]
        cases isB (σ0 fW_parents 0) (kdT σ0 ik nk V) 0 with
        | true => rw [if_pos rfl, if_neg b2i_n]
        | false => rw [if_neg (by decide), if_pos b2i_f]
    obtain ⟨g, eg⟩ : ∃ z, z = if V = -1 then (1 : Int) else b2i (isB (σ0 fW_parents 0) (kdT σ0 ik nk V) 0) := ⟨_, rfl⟩
    rw [← eg] at wq
    have tw := thW_t S3
    -- the place of the thing
    have tm : w32 (Int.tmod (τ0 fM_tThing 0 j) 10000) = f + thW σ0 (σ3 fR_placeFrom 0 0) (σ3 fR_placeTo 0 0) := by
      obtain ⟨ss, tt, q5, q6, q7, q8, q9⟩ := t3
      have et : tt = f + thW σ0 (σ3 fR_placeFrom 0 0) (σ3 fR_placeTo 0 0) := by
        unfold thW
        rcases q9 with y | y | y
        · rw [if_pos y.1]; exact y.2.2.2
        · rw [if_neg y.1, if_pos y.2.1]; exact y.2.2.2.2
        · obtain ⟨y1, cc, y2, y3, y4, y5, y6, _⟩ := y
          have n2 : ¬ σ0 fT_kinds 0 (σ3 fR_placeTo 0 0 - 1) = 62 := by
            have := y4 (σ3 fR_placeTo 0 0 - 1) (by omega) (by omega)
            omega
          rw [if_neg y1, if_neg n2, y6, y2]; rfl
      have s0 : 0 ≤ ss ∧ ss ≤ 2 := by
        rcases q9 with y | y | y
        · omega
        · omega
        · obtain ⟨y1, cc, y2, y3, y4, y5, _⟩ := y
          omega
      have e0 : Int.tmod (τ0 fM_tThing 0 j) 10000 = tt := by
        rw [q5, Int.tmod_eq_emod_of_nonneg (by omega)]
        omega
      rw [e0, et, w32_ok (by omega)]
    have K3' : ∀ G, G ∉ ckM → τ3 G = τ0 G := K3
    obtain ⟨τ4, y1, y2, y3, y4⟩ := m_need E K3 F3 (t := thW σ0 (σ3 fR_placeFrom 0 0) (σ3 fR_placeTo 0 0)) (t' := f + thW σ0 (σ3 fR_placeFrom 0 0) (σ3 fR_placeTo 0 0)) (r := 2) (why := 4) (g := g) tw rfl (by omega) (by decide) (d := d) (by omega)
    obtain ⟨τ5, z1, z2, z3, z4⟩ := m_meant E y3 y4 t4 S4 hm (ik := ik) (nk := nk) (by rw [y2 _ (by decide)]; exact hI3) (by rw [y2 _ (by decide)]; exact hn3) (d := d) (by omega)
    rw [xV] at z1
    obtain ⟨τ6, e6⟩ : ∃ z, z = ga_up τ5 fM_qOther 0 q (mT (teV σ0 ik nk σ3)) := ⟨_, rfl⟩
    have f6 : fr [fM_qOther] τ5 τ6 := by rw [e6]; exact fr_u (by decide)
    have s195 : m_phraseMeant_195 d τ3 q j g = some (0, τ6) := by
      rw [e_m_phraseMeant_195, ck_ok _ hj, K3' fM_tThing (by decide), tm, y1]
      simp only [Option.bind_some]
      rw [ck_ok _ hj, ck_ok _ hj, y3 fM_tOther (by decide), y3 fM_tOtherRun (by decide), z1]
      simp only [Option.bind_some]
      rw [ck_ok _ hq, ← e6]
    have f16 : fr (fM_qThing :: fM_qOther :: ntM) τ1 τ6 := fr_trans (fr_sub f13 (by decide)) (fr_trans (fr_sub y2 (by decide)) (fr_trans (fr_sub z2 (by decide)) (fr_sub f6 (by decide))))
    have fi := fin f16 (by decide) (by decide)
    have pc : phCd σ0 ik nk σ3 a b = min (min (thC σ0 ik nk (σ3 fR_placeFrom 0 0) (σ3 fR_placeTo 0 0)) (thC σ0 ik nk (σ3 fR_thingFrom 0 0) (σ3 fR_thingTo 0 0))) (mvC σ0 ik nk σ3) := by unfold phCd; rw [if_neg (by omega), if_neg (by omega), if_pos h1]
    have gt : GT τ6 (min c (phCd σ0 ik nk σ3 a b)) := by
      have := GT_f z4 f6 (by decide)
      rw [← wq] at this
      rw [pc]
      have em : min c (min (min (thC σ0 ik nk (σ3 fR_placeFrom 0 0) (σ3 fR_placeTo 0 0)) (thC σ0 ik nk (σ3 fR_thingFrom 0 0) (σ3 fR_thingTo 0 0))) (mvC σ0 ik nk σ3)) = min (min (min c (thC σ0 ik nk (σ3 fR_placeFrom 0 0) (σ3 fR_placeTo 0 0))) (mvC σ0 ik nk σ3)) (thC σ0 ik nk (σ3 fR_thingFrom 0 0) (σ3 fR_thingTo 0 0)) := by omega
      rw [em]
      exact this
    refine ⟨τ6, ?_, fr_trans (fr_sub f1 (by decide)) (fr_sub f16 (by decide)), KM_f z3 f6 (by decide), qKp_t q1 (qKp_t (qKp_f g2 (by decide)) (qKp_t (by rw [e3]; exact qKp_u _ _ _ _) (qKp_t (qKp_f y2 (by decide)) (qKp_t (qKp_f z2 (by decide)) (by rw [e6]; exact qKp_u _ _ _ _))))), fi.1, fi.2.1, fi.2.2, by rw [f16 _ (by decide)]; exact hY1, gt, Or.inr (Or.inr (Or.inl ⟨h1, ?_, ?_⟩))⟩
    · rw [run0, if_neg (by omega), ck_ok _ hi, if_neg (by omega), ck_ok _ hi, if_pos w0, ck_ok _ hj, ck_ok _ hj, K' fM_tThing (by decide), K' fM_tThingRun (by decide), g1]
      simp only [Option.bind_some]
      rw [ck_ok _ hq, ck_ok _ hq, up_eq, ← e3]
      by_cases v1 : V = -1
      · rw [if_pos v1] at eg
        rw [if_pos (m9.mpr v1), e_m_phraseMeant_190, ← eg, s195]
      · rw [if_neg v1] at eg
        have tv := vr.resolve_left v1
        have kr := kdT_r E kI kN tv
        have wk := e0_k E
        rw [if_neg (fun z => v1 (m9.mp z)), ck_ok _ hq, m_kindOfThing E K3 hI3 hn3 tv (by omega)]
        simp only [Option.bind_some]
        rw [s_m_isBelow wk.1 (fun k u1 u2 => by rw [K3' _ (by decide)]; exact wk.2.2.2.1 k u1 u2) (by omega) 0 (by omega) kr.2]
        simp only [Option.bind_some]
        cases ib : isB (σ0 fW_parents 0) (kdT σ0 ik nk V) 0 with
        | true =>
          rw [ib] at eg
          have eg' : g = 1 := eg
          rw [eg'] at s195
          rw [if_neg b2i_n, e_m_phraseMeant_190, s195]
        | false =>
          rw [ib] at eg
          have eg' : g = 0 := eg
          rw [eg'] at s195
          rw [if_pos b2i_f, s195]
    · rw [f6 _ (by decide), z2 _ (by decide), y2 _ (by decide), e3, up_eq, eV]
    · rw [e6, up_eq]
  · -- increase, decrease
    obtain ⟨h1, h2, h3, h4, h5, h6, h7, h8⟩ := h
    have t3 := thE_k h3 kk
    have S3 := thE_S (N := N) t3 (by omega) (by omega)
    have R := RU_of E.1 (rnR_k h2 kk) hm
    have p2 := rnR_B E.1 (rnR_k h2 kk)
    have xV : thV σ0 ik nk (σ3 fR_thingFrom 0 0) (σ3 fR_thingTo 0 0) = teV σ0 ik nk σ3 := rfl
    have vr : teV σ0 ik nk σ3 = -1 ∨ thO σ0 ik nk (teV σ0 ik nk σ3) := thV_r E ik nk _ _
    have nr := nuT_r E (k := σ3 fR_behindFrom 0 0) (by omega) h5
    obtain ⟨τ2, g1, g2, g3, g4⟩ := m_meant E K1 F1 t3 S3 hm hI1 hn1 (d := d) (by omega)
    rw [xV] at g1
    obtain ⟨τ3, e3⟩ : ∃ z, z = ga_up τ2 fM_qThing 0 q (mT (teV σ0 ik nk σ3)) := ⟨_, rfl⟩
    have f3 : fr [fM_qThing] τ2 τ3 := by rw [e3]; exact fr_u (by decide)
    have K3 := KM_f g3 f3 (by decide)
    have F3 := GT_f g4 f3 (by decide)
    have f13 : fr (fM_qThing :: ntM) τ1 τ3 := fr_trans (fr_sub g2 (by decide)) (fr_sub f3 (by decide))
    have hI3 : τ3 fM_itKind 0 0 = ik := by rw [f13 _ (by decide)]; exact hI1
    have hn3 : τ3 fM_nounKind 0 0 = nk := by rw [f13 _ (by decide)]; exact hn1
    obtain ⟨τ4, y1, y2, y3, y4⟩ := m_propertyMeant E K3 F3 hI3 hn3 kI kN vr R (d := d) (by omega)
    have y1' : c_m_propertyMeant d τ3 (τ0 fM_tRun 0 j) (mT (teV σ0 ik nk σ3)) = some (if teV σ0 ik nk σ3 ≠ -1 ∧ tePr σ0 ik nk σ3 false = true then tePn σ0 σ3 else -1, τ4) := y1
    obtain ⟨P, eP⟩ : ∃ z, z = if teV σ0 ik nk σ3 ≠ -1 ∧ tePr σ0 ik nk σ3 false = true then tePn σ0 σ3 else -1 := ⟨_, rfl⟩
    rw [← eP] at y1'
    obtain ⟨τ5, e5⟩ : ∃ z, z = ga_up τ4 fM_qProperty 0 q P := ⟨_, rfl⟩
    have f5 : fr [fM_qProperty] τ4 τ5 := by rw [e5]; exact fr_u (by decide)
    have K5 := KM_f y3 f5 (by decide)
    obtain ⟨τ6, z1, z2, z3, z4⟩ := m_numberMeant E K5 (GT_f y4 f5 (by decide)) R (d := d) (by omega)
    obtain ⟨τ7, e7⟩ : ∃ z, z = ga_up τ6 fM_qWhat 0 q (nuT σ0 (σ3 fR_behindFrom 0 0)) := ⟨_, rfl⟩
    have f7 : fr [fM_qWhat] τ6 τ7 := by rw [e7]; exact fr_u (by decide)
    have s257 : m_phraseMeant_257 d τ1 q j = some (0, τ7) := by
      rw [e_m_phraseMeant_257, ck_ok _ hj, ck_ok _ hj, K1' fM_tThing (by decide), K1' fM_tThingRun (by decide), g1]
      simp only [Option.bind_some]
      rw [ck_ok _ hq, ck_ok _ hj, ck_ok _ hq, up_eq, ← e3, g3 fM_tRun (by decide), y1']
      simp only [Option.bind_some]
      rw [ck_ok _ hq, ck_ok _ hj, ← e5, y3 fM_tRun (by decide), z1]
      simp only [Option.bind_some]
      rw [ck_ok _ hj, z3 fM_tWhat (by decide), h4, ck_ok _ (by omega), ck_ok _ hq, z3 fM_word (by decide), nr.2.2, w32_ok (by omega), ← e7]
    have f17 : fr (fM_qThing :: fM_qProperty :: fM_qWhat :: ntM) τ1 τ7 := fr_trans (fr_sub f13 (by decide)) (fr_trans (fr_sub y2 (by decide)) (fr_trans (fr_sub f5 (by decide)) (fr_trans (fr_sub z2 (by decide)) (fr_sub f7 (by decide)))))
    have fi := fin f17 (by decide) (by decide)
    have pc : phCd σ0 ik nk σ3 a b = min (thC σ0 ik nk (σ3 fR_thingFrom 0 0) (σ3 fR_thingTo 0 0)) (if tePr σ0 ik nk σ3 true = true then 1000000 else cd σ0 (σ3 fR_propertyFrom 0 0) 2) := by
      unfold phCd
      rw [if_neg (by omega), if_neg (by omega), if_neg (by omega), if_pos (by omega)]
    have gt : GT τ7 (min c (phCd σ0 ik nk σ3 a b)) := by
      rw [pc, ← Int.min_assoc]
      have cr := cd_r E.2.1 (frB_t p2) (r := 2) (by omega)
      have nm := nu_min (σ0 := σ0) (c := min c (thC σ0 ik nk (σ3 fR_thingFrom 0 0) (σ3 fR_thingTo 0 0))) (x := cd σ0 (σ3 fR_propertyFrom 0 0) 2) (by omega) ik nk (σ3 fR_propertyFrom 0 0) (σ3 fR_propertyTo 0 0) (teV σ0 ik nk σ3)
      rw [nm] at z4
      exact GT_f z4 f7 (by decide)
    refine ⟨τ7, ?_, fr_trans (fr_sub f1 (by decide)) (fr_sub f17 (by decide)), KM_f z3 f7 (by decide), qKp_t q1 (qKp_t (qKp_f g2 (by decide)) (qKp_t (by rw [e3]; exact qKp_u _ _ _ _) (qKp_t (qKp_f y2 (by decide)) (qKp_t (by rw [e5]; exact qKp_u _ _ _ _) (qKp_t (qKp_f z2 (by decide)) (by rw [e7]; exact qKp_u _ _ _ _)))))), fi.1, fi.2.1, fi.2.2, by rw [f17 _ (by decide)]; exact hY1, gt, Or.inr (Or.inr (Or.inr (Or.inl ⟨by omega, ?_, ?_, ?_⟩)))⟩
    · rw [run0]
      rcases h1 with g | g
      · have w0 : w = 3 := by rw [← ewp]; exact g.2
        rw [if_neg (by omega), ck_ok _ hi, if_neg (by omega), ck_ok _ hi, if_neg (by omega), ck_ok _ hi, if_pos w0, s257]
      · have w0 : w = 4 := by rw [← ewp]; exact g.2
        rw [if_neg (by omega), ck_ok _ hi, if_neg (by omega), ck_ok _ hi, if_neg (by omega), ck_ok _ hi, if_neg (by omega), ck_ok _ hi, if_pos w0, s257]
    · rw [f7 _ (by decide), z2 _ (by decide), f5 _ (by decide), y2 _ (by decide), e3, up_eq]
    · rw [f7 _ (by decide), z2 _ (by decide), e5, up_eq]; exact eP
    · rw [e7, up_eq]
  · -- stop
    have w0 : w = 6 := by rw [← ewp]; exact h.2
    have fi := fin (fr_refl [] τ1) (by decide) (by decide)
    have pc : phCd σ0 ik nk σ3 a b = 1000000 := by unfold phCd; rw [if_neg (by omega), if_neg (by omega), if_neg (by omega), if_neg (by omega), if_pos h.1]
    refine ⟨τ1, ?_, fr_sub f1 (by decide), K1, q1, fi.1, fi.2.1, fi.2.2, hY1, by rw [pc, Int.min_eq_left le]; exact F1, Or.inr (Or.inr (Or.inr (Or.inr (Or.inl h.1))))⟩
    rw [run0, if_neg (by omega), ck_ok _ hi, if_neg (by omega), ck_ok _ hi, if_neg (by omega), ck_ok _ hi, if_neg (by omega), ck_ok _ hi, if_neg (by omega), ck_ok _ hi, if_neg (by omega)]
  · -- try
    obtain ⟨h1, h2, h3, h4, h5⟩ := h
    have w0 : w = 5 := by rw [← ewp]; exact h2
    have R := RU_of E.1 (rnR_k h3 kk) hm
    have p2 := rnR_B E.1 (rnR_k h3 kk)
    have tt := frB_t p2
    have hab2 := h3.2.2.2.2.1
    have pc : phCd σ0 ik nk σ3 a b = tyC σ0 ik nk σ3 := by unfold phCd; rw [if_neg (by omega), if_neg (by omega), if_neg (by omega), if_neg (by omega), if_neg (by omega)]
    rw [if_neg (by omega), ck_ok _ hi, if_neg (by omega), ck_ok _ hi, if_neg (by omega), ck_ok _ hi, if_neg (by omega), ck_ok _ hi, if_neg (by omega), ck_ok _ hi, if_pos w0, ck_ok _ hj, ck_ok _ hj, K' fM_tNot (by decide), K' fM_tRun (by decide)] at run0
    obtain ⟨r, er⟩ : ∃ z, z = τ0 fM_tRun 0 j := ⟨_, rfl⟩
    rw [← er] at R run0
    obtain ⟨pf, epf⟩ : ∃ z, z = σ3 fR_propertyFrom 0 0 := ⟨_, rfl⟩
    obtain ⟨pt, ept⟩ : ∃ z, z = σ3 fR_propertyTo 0 0 := ⟨_, rfl⟩
    have eX : dN σ0 (nmT σ0 pf pt) 8 = tyX σ0 σ3 := by rw [epf, ept]; rfl
    unfold tyC at pc
    rw [← epf, ← ept] at R p2 pc
    rw [← epf] at tt
    have hab3 : pf < pt := by rw [epf, ept]; exact hab2
    rcases h5 with y | y
    · -- nothing more
      rw [if_pos y.2] at run0
      rw [if_pos y.1] at pc
      obtain ⟨τ2, g1, g2, g3, g4, g5⟩ := m_actings E K1 false R hab3 (d := d) (by omega)
      have g1' : c_m_actings d τ1 r 1 = some (acN σ0 false pf pt, τ2) := g1
      obtain ⟨n, en⟩ : ∃ z, z = acN σ0 false pf pt := ⟨_, rfl⟩
      have n0 : 0 ≤ n := by
        rw [en]; unfold acN
        have := b2i_01 (acW σ0 false pf pt)
        omega
      rw [← en] at g1' g4 g5 pc
      obtain ⟨τ3, τ4, u1, u2, u3, u4, u5, u6⟩ := m_two E g2 (GT_f F1 g3 (by decide)) (a := pf) (t := f + pf) (n := n) tt rfl n0 (d := d) (by omega)
      obtain ⟨A, eA⟩ : ∃ z : Int, z = if 0 < n then τ4 fM_tried 0 0 else 0 := ⟨_, rfl⟩
      obtain ⟨O, eO⟩ : ∃ z : Int, z = if 0 < n then τ4 fM_triedObject 0 0 else -1 := ⟨_, rfl⟩
      obtain ⟨τ5, e5⟩ : ∃ z, z = ga_up τ4 fM_qProperty 0 q A := ⟨_, rfl⟩
      have f5 : fr [fM_qProperty] τ4 τ5 := by rw [e5]; exact fr_u (by decide)
      obtain ⟨τ6, e6⟩ : ∃ z, z = ga_up τ5 fM_qThing 0 q O := ⟨_, rfl⟩
      have f6 : fr [fM_qThing] τ5 τ6 := by rw [e6]; exact fr_u (by decide)
      obtain ⟨τ7, e7⟩ : ∃ z, z = ga_up τ6 fM_qNot 0 q (if O = -1 then 1 else 0) := ⟨_, rfl⟩
      have f7 : fr [fM_qNot] τ6 τ7 := by rw [e7]; exact fr_u (by decide)
      have f16 : fr (fM_qProperty :: fM_qThing :: fM_tried :: fM_triedObject :: ntM) τ1 τ6 := fr_trans (fr_sub g3 (by decide)) (fr_trans (fr_sub u3 (by decide)) (fr_trans (fr_sub f5 (by decide)) (fr_sub f6 (by decide))))
      have K6 : KM τ0 τ6 := KM_f K1 f16 (by decide)
      have t6 : τ6 fM_qThing 0 q = O := by rw [e6, up_eq]
      have s537 : m_phraseMeant_537 d τ6 q j = some (0, τ7) := by
        rw [e_m_phraseMeant_537, ck_ok _ hq, t6, e7]
        by_cases z : O = -1
        · rw [if_pos z, if_pos z, ck_ok _ hj, K6 fM_tNot (by decide), if_pos y.2, e_m_phraseMeant_567, ck_ok _ hq, z1_ok _ (by decide)]
        · rw [if_neg z, if_neg z, e_m_phraseMeant_566, e_m_phraseMeant_567, ck_ok _ hq, z1_ok _ (by decide)]
      have s536 : m_phraseMeant_536 d τ5 q j O q = some (0, τ7) := by rw [e_m_phraseMeant_536, ck_ok _ hq, ← e6, s537]
      have s517 : m_phraseMeant_517 d τ4 q j n A q = some (0, τ7) := by
        rw [e_m_phraseMeant_517, ck_ok _ hq, ← e5]
        by_cases z : 0 < n
        · rw [if_pos z] at eO
          rw [if_pos z, ← eO, s536]
        · rw [if_neg z] at eO
          rw [if_neg z, ← eO, s536]
      have s487 : m_phraseMeant_487 d τ3 q j r n (if n < 2 then 1 else 0) = some (0, τ7) := by
        rw [e_m_phraseMeant_487, ck_ok _ R.1, u6 fM_runFrom (by decide), g2 fM_runFrom (by decide), R.2.1, u2]
        simp only [Option.bind_some]
        by_cases z : 0 < n
        · rw [if_pos z] at eA
          rw [if_pos z, ← eA, s517]
        · rw [if_neg z] at eA
          rw [eA] at s517
          rw [if_neg z, s517]
      have s464 : m_phraseMeant_464 d τ2 q j r n (if 0 < n then 1 else 0) = some (0, τ7) := by
        rw [e_m_phraseMeant_464, ck_ok _ R.1, g2 fM_runFrom (by decide), R.2.1, u1]
        simp only [Option.bind_some]
        rw [if_app (m_phraseMeant_487 d τ3 q j r n), s487]
      have q45 : qKp q τ4 τ5 := by rw [e5]; exact qKp_u _ _ _ _
      have q56 : qKp q τ5 τ6 := by rw [e6]; exact qKp_u _ _ _ _
      have q67 : qKp q τ6 τ7 := by rw [e7]; exact qKp_u _ _ _ _
      have f17 : fr (fM_qNot :: fM_qProperty :: fM_qThing :: fM_tried :: fM_triedObject :: ntM) τ1 τ7 := fr_trans (fr_sub f16 (by decide)) (fr_sub f7 (by decide))
      have fi := fin f17 (by decide) (by decide)
      refine ⟨τ7, ?_, fr_trans (fr_sub f1 (by decide)) (fr_sub f17 (by decide)), KM_f K6 f7 (by decide), qKp_t q1 (qKp_t (qKp_f g3 (by decide)) (qKp_t (qKp_f u3 (by decide)) (qKp_t q45 (qKp_t q56 q67)))), fi.1, fi.2.1, fi.2.2, by rw [f17 _ (by decide)]; exact hY1, by rw [pc]; exact GT_f (GT_f (GT_f u5 f5 (by decide)) f6 (by decide)) f7 (by decide), Or.inr (Or.inr (Or.inr (Or.inr (Or.inr ⟨h1, Or.inl ⟨y.1, fun z => ?_⟩⟩))))⟩
      · rw [run0, g1']
        simp only [Option.bind_some]
        rw [if_app (m_phraseMeant_464 d τ2 q j r n), s464]
      · rw [← epf, ← ept, ← en] at z
        have g6 := g4 z
        rw [if_pos (by omega), u3 _ (by decide)] at eA
        rw [if_pos (by omega), u3 _ (by decide)] at eO
        have p7 : τ7 fM_qProperty 0 q = A := by rw [f7 _ (by decide), f6 _ (by decide), e5, up_eq]
        have t7 : τ7 fM_qThing 0 q = O := by rw [f7 _ (by decide)]; exact t6
        have n7 : τ7 fM_qNot 0 q = if O = -1 then 1 else 0 := by rw [e7, up_eq]
        rw [p7, t7, n7, ← epf, ← ept, eA, eO]
        exact ⟨g6, rfl⟩
    · -- with a thing
      rw [if_neg (by rw [y.2.1]; decide)] at run0
      rw [if_neg (by omega)] at pc
      have t3 := thE_k y.2.2.1 kk
      have S3 := thE_S (N := N) t3 (by omega) (by omega)
      have mr := m_meansRun E K1 p2 R.1 R.2.1 R.2.2.1 (d := d) (by omega) 11
      rw [mN_dN (s := 8) (ms := 11) (by omega), eX] at mr
      have xr := e0_dN E (nmT σ0 pf pt) 8
      have m8 : mxN σ0 8 = σ0 fW_actions 0 0 := rfl
      have wc := e0_c E
      have wc2 := wc.2.1
      rw [eX] at xr
      obtain ⟨X, eX2⟩ : ∃ z, z = tyX σ0 σ3 := ⟨_, rfl⟩
      rw [← eX2] at mr xr pc
      obtain ⟨g, eg⟩ : ∃ z : Int, z = if X = -1 ∨ σ0 fW_actionKinds 0 X < 0 then 0 else 1 := ⟨_, rfl⟩
      obtain ⟨τ2, u1, u2, u3, u4⟩ := m_need E K1 F1 (t := pf) (t' := f + pf) (r := 2) (why := 4) (g := g) tt rfl (by omega) (by decide) (d := d) (by omega)
      obtain ⟨τ3, e3⟩ : ∃ z, z = ga_up τ2 fM_qProperty 0 q X := ⟨_, rfl⟩
      have f3 : fr [fM_qProperty] τ2 τ3 := by rw [e3]; exact fr_u (by decide)
      have K3 := KM_f u3 f3 (by decide)
      obtain ⟨τ4, v1, v2, v3, v4⟩ := m_meant E K3 (GT_f u4 f3 (by decide)) t3 S3 hm (ik := ik) (nk := nk) (by rw [f3 _ (by decide), u2 _ (by decide)]; exact hI1) (by rw [f3 _ (by decide), u2 _ (by decide)]; exact hn1) (d := d) (by omega)
      have xV : thV σ0 ik nk (σ3 fR_thingFrom 0 0) (σ3 fR_thingTo 0 0) = teV σ0 ik nk σ3 := rfl
      rw [xV] at v1
      obtain ⟨τ5, e5⟩ : ∃ z, z = ga_up τ4 fM_qThing 0 q (mT (teV σ0 ik nk σ3)) := ⟨_, rfl⟩
      have f5 : fr [fM_qThing] τ4 τ5 := by rw [e5]; exact fr_u (by decide)
      have K5 := KM_f v3 f5 (by decide)
      obtain ⟨τ6, e6⟩ : ∃ z, z = ga_up τ5 fM_qNot 0 q 0 := ⟨_, rfl⟩
      have f6 : fr [fM_qNot] τ5 τ6 := by rw [e6]; exact fr_u (by decide)
      have s566 : m_phraseMeant_566 d τ5 q = some (0, τ6) := by rw [e_m_phraseMeant_566, e_m_phraseMeant_567, ck_ok _ hq, z1_ok _ (by decide), ← e6]
      have s537 : m_phraseMeant_537 d τ5 q j = some (0, τ6) := by
        rw [e_m_phraseMeant_537, ck_ok _ hq, ck_ok _ hj, K5 fM_tNot (by decide), y.2.1, if_neg (show ¬ (1 : Int) = 0 by decide), s566]
        split <;> rfl
      have s398 : m_phraseMeant_398 d τ1 q j r X g = some (0, τ6) := by
        rw [e_m_phraseMeant_398, ck_ok _ R.1, K1' fM_runFrom (by decide), R.2.1, u1]
        simp only [Option.bind_some]
        rw [ck_ok _ hq, ck_ok _ hj, ck_ok _ hj, ← e3, u3 fM_tThing (by decide), u3 fM_tThingRun (by decide), v1]
        simp only [Option.bind_some]
        rw [ck_ok _ hq, ← e5, s537]
      have q45 : qKp q τ4 τ5 := by rw [e5]; exact qKp_u _ _ _ _
      have q56 : qKp q τ5 τ6 := by rw [e6]; exact qKp_u _ _ _ _
      have f16 : fr (fM_qProperty :: fM_qThing :: fM_qNot :: ntM) τ1 τ6 := fr_trans (fr_sub u2 (by decide)) (fr_trans (fr_sub f3 (by decide)) (fr_trans (fr_sub v2 (by decide)) (fr_trans (fr_sub f5 (by decide)) (fr_sub f6 (by decide)))))
      have fi := fin f16 (by decide) (by decide)
      have gt : GT τ6 (min c (phCd σ0 ik nk σ3 a b)) := by
        rw [pc, ← Int.min_assoc]
        have eg2 : (if g = 0 then cd σ0 pf 2 else 1000000) = if X = -1 ∨ σ0 fW_actionKinds 0 X < 0 then cd σ0 pf 2 else 1000000 := by
          rw [eg]
          by_cases z : X = -1 ∨ σ0 fW_actionKinds 0 X < 0
          · rw [if_pos z, if_pos z, if_pos rfl]
          · rw [if_neg z, if_neg z, if_neg (by decide)]
        rw [eg2] at v4
        exact GT_f (GT_f v4 f5 (by decide)) f6 (by decide)
      refine ⟨τ6, ?_, fr_trans (fr_sub f1 (by decide)) (fr_sub f16 (by decide)), KM_f K5 f6 (by decide), qKp_t q1 (qKp_t (qKp_f u2 (by decide)) (qKp_t (by rw [e3]; exact qKp_u _ _ _ _) (qKp_t (qKp_f v2 (by decide)) (qKp_t q45 q56)))), fi.1, fi.2.1, fi.2.2, by rw [f16 _ (by decide)]; exact hY1, gt, Or.inr (Or.inr (Or.inr (Or.inr (Or.inr ⟨h1, Or.inr ⟨by omega, ?_, ?_, ?_⟩⟩))))⟩
      · rw [run0, mr]
        simp only [Option.bind_some]
        by_cases z1 : X = -1
        · rw [if_pos (Or.inl z1)] at eg
          rw [eg] at s398
          rw [if_pos z1, e_m_phraseMeant_397, s398]
        · rw [if_neg z1, ck_ok _ (by omega), K1' fM_actionKind (by decide), (wc.2.2.2 X (by omega) (by omega)).2.2]
          by_cases z2 : σ0 fW_actionKinds 0 X < 0
          · rw [if_pos (Or.inr z2)] at eg
            rw [eg] at s398
            rw [if_pos z2, e_m_phraseMeant_397, s398]
          · rw [if_neg (fun v => v.elim z1 z2)] at eg
            rw [eg] at s398
            rw [if_neg z2, s398]
      · rw [f6 _ (by decide), f5 _ (by decide), v2 _ (by decide), e3, up_eq]; exact eX2
      · rw [f6 _ (by decide), e5, up_eq]
      · rw [e6, up_eq]
end

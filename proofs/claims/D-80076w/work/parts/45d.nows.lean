/-! phrases that make something so, on both sides -/
section
variable {σ τ σ1 τ1 : ga_S}
theorem RW5_1 (R : RW5 σ τ) (f1 : fr [fW_told] σ σ1) (f2 : fr [fM_objectIs] τ τ1) (h : RWt σ1 τ1) : RW5 σ1 τ1 := ⟨h, RWh_f R.2.1 (fr_mem f1 (by decide)) (by rw [f1 _ (by decide), f1 _ (by decide)]; exact ⟨rfl, rfl⟩) (fr_mem f2 (by decide)), RWp_f R.2.2.1 (fr_mem f1 (by decide)) (fr_mem f2 (by decide)), RWy_f R.2.2.2.1 (fr_mem f1 (by decide)) (fr_mem f2 (by decide)), RWe_f R.2.2.2.2 (fr_mem f1 (by decide)) (fr_mem f2 (by decide))⟩
theorem RW5_2 (R : RW5 σ τ) (f1 : fr stW σ σ1) (f2 : fr [fM_objectTold, fM_objectSays, fM_objectLong] τ τ1) (h : RWh σ1 τ1) : RW5 σ1 τ1 := ⟨RWt_f R.1 (fr_mem f1 (by decide)) (fr_mem f2 (by decide)), h, RWp_f R.2.2.1 (fr_mem f1 (by decide)) (fr_mem f2 (by decide)), RWy_f R.2.2.2.1 (fr_mem f1 (by decide)) (fr_mem f2 (by decide)), RWe_f R.2.2.2.2 (fr_mem f1 (by decide)) (fr_mem f2 (by decide))⟩
theorem RW5_3 (R : RW5 σ τ) (f1 : fr [fW_placed, fW_placeAt] σ σ1) (f2 : fr [fM_way, fM_there] τ τ1) (h : RWp σ1 τ1) : RW5 σ1 τ1 := ⟨RWt_f R.1 (fr_mem f1 (by decide)) (fr_mem f2 (by decide)), RWh_f R.2.1 (fr_mem f1 (by decide)) (by rw [f1 _ (by decide), f1 _ (by decide)]; exact ⟨rfl, rfl⟩) (fr_mem f2 (by decide)), h, RWy_f R.2.2.2.1 (fr_mem f1 (by decide)) (fr_mem f2 (by decide)), RWe_f R.2.2.2.2 (fr_mem f1 (by decide)) (fr_mem f2 (by decide))⟩
theorem RW5_5 (R : RW5 σ τ) (f1 : fr [fW_related] σ σ1) (f2 : fr [fM_related] τ τ1) (h : RWe σ1 τ1) : RW5 σ1 τ1 := ⟨RWt_f R.1 (fr_mem f1 (by decide)) (fr_mem f2 (by decide)), RWh_f R.2.1 (fr_mem f1 (by decide)) (by rw [f1 _ (by decide), f1 _ (by decide)]; exact ⟨rfl, rfl⟩) (fr_mem f2 (by decide)), RWp_f R.2.2.1 (fr_mem f1 (by decide)) (fr_mem f2 (by decide)), RWy_f R.2.2.2.1 (fr_mem f1 (by decide)) (fr_mem f2 (by decide)), h⟩
/-- a property is told of an object -/
theorem set_AP (A : AP σ τ) {o p v n m : Int} (ho : 0 ≤ o ∧ o < σ fW_objects 0 0) (hp : 0 ≤ p ∧ p < σ fW_properties 0 0) (vo : vlO σ p v n) (hnm : σ fW_propertyTypes 0 p = 1 → m = n) (e1 : σ1 = ga_up (ga_up (ga_up σ fW_has o p 1) fW_numbers o p v) fW_lengths o p n) (e2 : τ1 = ga_up (ga_up (ga_up τ fM_objectTold 0 (12 * o + p) 1) fM_objectSays 0 (12 * o + p) v) fM_objectLong 0 (12 * o + p) m) : fr wpC σ σ1 ∧ fr wpM τ τ1 ∧ AP σ1 τ1 := by
  have AA := A
  obtain ⟨_, ⟨g, X⟩, _⟩ := A
  have f1 : fr stW σ σ1 := by rw [e1]; exact fr_trans (fr_u (by decide)) (fr_trans (fr_u (by decide)) (fr_u (by decide)))
  have f2 : fr [fM_objectTold, fM_objectSays, fM_objectLong] τ τ1 := by rw [e2]; exact fr_trans (fr_u (by decide)) (fr_trans (fr_u (by decide)) (fr_u (by decide)))
  have R := RWh_now X.2.1.2.1 (by have := X.1.1.2.1; omega) ho X.1.2.1.2.1 hp X.1.2.2.2.2.2.1.2.1 vo hnm e1 e2
  have k1 : fr wpC σ σ1 := fr_sub f1 (by decide)
  have k2 : fr wpM τ τ1 := fr_sub f2 (by decide)
  exact ⟨k1, k2, AP_w AA k1 k2 (RW5_2 X.2.1 f1 f2 R)⟩
theorem nw_3 {q o p v : Int} (hq : 0 ≤ q ∧ q < 2400) (ho : 0 ≤ o ∧ o < 24) (hp : 0 ≤ p ∧ p < 12) (hv : 0 ≤ v ∧ v < 64) (f : τ fM_qForm 0 q = 3) (w : τ fM_qWhat 0 q = 100 + 100 * v + p) (d : Nat) : m_nows_300 d τ q o = some (0, ga_up (ga_up (ga_up τ fM_objectTold 0 (12 * o + p) 1) fM_objectSays 0 (12 * o + p) v) fM_objectLong 0 (12 * o + p) 0) := by
  have e1 : Int.tmod (100 + 100 * v + p) 100 = p := by rw [Int.tmod_eq_emod_of_nonneg (by omega)]; omega
  have e2 : Int.tdiv (100 + 100 * v + p) 100 = v + 1 := by rw [Int.tdiv_eq_ediv_of_nonneg (by omega)]; omega
  rw [e_m_nows_300, ck_ok _ hq, if_pos f, ck_ok _ hq, w, e1, w32_ok (x := p) (by omega), e_m_nows_328, w32_ok (x := 12 * o) (by omega), w32_ok (x := 12 * o + p) (by omega), ck_ok _ (by omega), ck_ok _ hq, if_pos f, ck_ok _ hq, w, e2, w32_ok (x := v + 1) (by omega), w32_ok (x := v + 1 - 1) (by omega), show v + 1 - 1 = v by omega, e_m_nows_384, ck_ok _ (by omega), ck_ok _ hq, up_F (F := fM_objectTold) (F' := fM_qForm) (by decide), if_pos f, e_m_nows_416, w32_ok (x := 12 * o) (by omega), w32_ok (x := 12 * o + p) (by omega), ck_ok _ (by omega)]
theorem nw_0 {q o p : Int} (hq : 0 ≤ q ∧ q < 2400) (ho : 0 ≤ o ∧ o < 24) (hp : 0 ≤ p ∧ p < 12) (f : τ fM_qForm 0 q ≠ 3) (w : τ fM_qProperty 0 q = p) (d : Nat) : m_nows_300 d τ q o = some (0, ga_up (ga_up (ga_up τ fM_objectTold 0 (12 * o + p) 1) fM_objectSays 0 (12 * o + p) (τ fM_qWhat 0 q)) fM_objectLong 0 (12 * o + p) (τ fM_qLong 0 q)) := by
  rw [e_m_nows_300, ck_ok _ hq, if_neg f, ck_ok _ hq, w, e_m_nows_328, w32_ok (x := 12 * o) (by omega), w32_ok (x := 12 * o + p) (by omega), ck_ok _ (by omega), ck_ok _ hq, if_neg f, ck_ok _ hq, e_m_nows_384, ck_ok _ (by omega), ck_ok _ hq, up_F (F := fM_objectTold) (F' := fM_qForm) (by decide), if_neg f, ck_ok _ hq, up_F (F := fM_objectTold) (F' := fM_qLong) (by decide), e_m_nows_416, w32_ok (x := 12 * o) (by omega), w32_ok (x := 12 * o + p) (by omega), ck_ok _ (by omega)]
/-- a phrase that makes something so -/
theorem now_J (A : AP σ τ) {nk noun noun' s q : Int} (hs : 0 ≤ s) (hq : 0 ≤ q ∧ q < 2400) (T : stT σ (-1) nk true σ τ s q) (N : nwP σ s) (hn : IVk σ nk noun) (he : nk ≠ -1 → noun' = noun) {d d' : Nat} (hd : 3 ≤ d) (hd' : 3 ≤ d') : ∃ σ' τ', c_u_phrase d σ s noun = some (0, σ') ∧ c_m_nows d' τ q noun' = some (0, τ') ∧ fr wpC σ σ' ∧ fr wpM τ τ' ∧ AP σ' τ' := by
  obtain ⟨d, rfl⟩ : ∃ e, d = e + 1 := ⟨d - 1, by omega⟩
  obtain ⟨d', rfl⟩ : ∃ e, d' = e + 1 := ⟨d' - 1, by omega⟩
  have AA := A
  obtain ⟨_, ⟨g, X⟩, _⟩ := A
  obtain ⟨⟨t1, t2⟩, t3, t4, T⟩ := T
  have W := X.1
  have o24 := W.2.1.2.1
  have p12 := W.2.2.2.2.2.1.2.1
  have ob := (ob_r X t4 (it := -1) (noun := noun) (fun z => absurd rfl z) hn).1
  obtain ⟨o, eo⟩ : ∃ o, o = obT (σ fS_thing s 0) (-1) noun := ⟨_, rfl⟩
  rw [← eo] at ob
  have mth : c_m_thingIs d' τ (τ fM_qThing 0 q) (-1) noun' = some (o, τ) := by rw [t3, m_obj t4 _ _ (by omega), ob_eq t4 he, eo]
  have runM := e_m_nows d' τ q noun'
  rw [ck_ok _ hq, mth, Option.bind_some, ck_ok _ hq] at runM
  have setJ : ∀ v n m p : Int, (0 ≤ p ∧ p < σ fW_properties 0 0) → vlO σ p v n → (σ fW_propertyTypes 0 p = 1 → m = n) → c_u_phrase (d + 1) σ s noun = some (0, ga_up (ga_up (ga_up σ fW_has o p 1) fW_numbers o p v) fW_lengths o p n) → m_nows_300 d' τ q o = some (0, ga_up (ga_up (ga_up τ fM_objectTold 0 (12 * o + p) 1) fM_objectSays 0 (12 * o + p) v) fM_objectLong 0 (12 * o + p) m) → c_m_nows (d' + 1) τ q noun' = m_nows_300 d' τ q o → ∃ σ' τ', c_u_phrase (d + 1) σ s noun = some (0, σ') ∧ c_m_nows (d' + 1) τ q noun' = some (0, τ') ∧ fr wpC σ σ' ∧ fr wpM τ τ' ∧ AP σ' τ' := by
    intro v n m p hp vo hnm c1 c2 c3
    have S := set_AP AA ob hp vo hnm rfl rfl
    exact ⟨_, _, c1, c3.trans c2, S.1, S.2.1, S.2.2⟩
  rcases T with ⟨a1, a2, a3, a4, a5, a6, a7, a8⟩ | ⟨a1, a2, _⟩ | ⟨a1, a2, a3, a4, a5, a6⟩ | ⟨a1, a2, a3, a4, a5, a6, a7, a8⟩ | ⟨a1, _⟩ | ⟨a1, a2, a3, a4, a5, a6⟩
  · -- related
    have ob2 := (ob_r X a5 (it := -1) (noun := noun) (fun z => absurd rfl z) hn).1
    obtain ⟨x, ex⟩ : ∃ x, x = obT (σ fS_other s 0) (-1) noun := ⟨_, rfl⟩
    rw [← ex] at ob2
    have mth2 : c_m_thingIs d' τ (τ fM_qOther 0 q) (-1) noun' = some (x, τ) := by rw [a4, m_obj a5 _ _ (by omega), ob_eq a5 he, ex]
    obtain ⟨σ', τ', c1, c2, c3, c4, c5⟩ := rel_J (r := σ fS_which s 0) (a := o) (b := x) X.2.1.2.2.2.2 ⟨a7, a8⟩ W.2.2.2.2.2.2.1.2.1 ob ob2 o24 W.2.1.2.2.1 (d := d) (d' := d') (by omega)
    have k1 : fr wpC σ σ' := fr_sub c3 (by decide)
    have k2 : fr wpM τ τ' := fr_sub c4 (by decide)
    refine ⟨σ', τ', ?_, ?_, k1, k2, AP_w AA k1 k2 (RW5_5 X.2.1 c3 c4 c5)⟩
    · rw [ph_7 hs a3 (by omega), ← eo, ← ex, c1, Option.bind_some]
    · rw [runM]
      refine (if_pos a1).trans ?_
      show ga_ck q 2400 (ga_ck q 2400 ((c_m_thingIs d' τ (τ fM_qOther 0 q) (-1) noun').bind fun q2 => m_nows_46 d' q2.2 o (τ fM_qProperty 0 q) q2.1 0)) = _
      rw [ck_ok _ hq, ck_ok _ hq, mth2, Option.bind_some, a6]
      exact c2
  · exact absurd a2 N.1
  · -- an adjective
    have Wa := W.2.2.1
    have a24 := Wa.2.1
    have hc : σ fW_contraries 0 (σ fS_which s 0) ≠ -1 := by
      unfold fitA at a6
      rw [Bool.and_eq_true] at a6
      have := a6.2
      rw [Bool.not_true, Bool.false_or] at this
      exact of_decide_eq_true this
    have wa := (Wa.2.2.2 _ a4 a5).2.resolve_left (fun z => hc z.1)
    obtain ⟨w1, w2, w3, w4, _, w6, _⟩ := wa
    obtain ⟨a, ea⟩ : ∃ a, a = σ fS_which s 0 := ⟨_, rfl⟩
    rw [← ea] at a3 a4 a5 hc w1 w2 w3 w4 w6
    have rM : c_m_nows (d' + 1) τ q noun' = (if τ fM_qNot 0 q = 0 then m_nows_265 d' τ q o a 1 (24 * o + a) else m_nows_265 d' τ q o a 2 (24 * o + a)) := by
      rw [runM]
      refine (if_neg (show ¬ τ fM_qForm 0 q = 5 by rw [a1]; decide)).trans ?_
      show ga_ck q 2400 (if τ fM_qForm 0 q = 3 then ga_ck q 2400 (if τ fM_qWhat 0 q < 100 then ga_ck q 2400 (ga_ck q 2400 (if τ fM_qNot 0 q = 0 then m_nows_265 d' τ q o (τ fM_qWhat 0 q) 1 (w32 (w32 (24 * o) + τ fM_qWhat 0 q)) else m_nows_265 d' τ q o (τ fM_qWhat 0 q) 2 (w32 (w32 (24 * o) + τ fM_qWhat 0 q)))) else m_nows_300 d' τ q o) else m_nows_300 d' τ q o) = _
      rw [ck_ok _ hq, if_pos a1, ck_ok _ hq, a3, if_pos (by omega), ck_ok _ hq, ck_ok _ hq, w32_ok (x := 24 * o) (by omega), w32_ok (x := 24 * o + a) (by omega)]
    have fin : ∀ (b : Int) (σ' τ' : ga_S), (0 ≤ b ∧ b < σ fW_adjectives 0 0) → σ fW_contraries 0 b ≠ -1 → c_u_phrase (d + 1) σ s noun = some (0, σ') → c_m_nows (d' + 1) τ q noun' = some (0, τ') → fr [fW_told] σ σ' → (∀ r x, σ' fW_told r x = if r = o ∧ x = σ fW_contraries 0 b then 0 else if r = o ∧ x = b then 1 else σ fW_told r x) → fr [fM_objectIs] τ τ' → (∀ i, τ' fM_objectIs 0 i = if i = 24 * o + σ fW_contraries 0 b then 2 else if i = 24 * o + b then 1 else τ fM_objectIs 0 i) → ∃ σ' τ', c_u_phrase (d + 1) σ s noun = some (0, σ') ∧ c_m_nows (d' + 1) τ q noun' = some (0, τ') ∧ fr wpC σ σ' ∧ fr wpM τ τ' ∧ AP σ' τ' := by
      intro b σ' τ' hb hcb c1 c2 f1 t1 f2 t2
      have R := RWt_now Wa X.2.1.1 (by have := X.1.1.2.1; omega) ob o24 hb rfl hcb f1 t1 f2 t2
      have k1 : fr wpC σ σ' := fr_sub f1 (by decide)
      have k2 : fr wpM τ τ' := fr_sub f2 (by decide)
      exact ⟨σ', τ', c1, c2, k1, k2, AP_w AA k1 k2 (RW5_1 X.2.1 f1 f2 R)⟩
    have rC := ph_0 (σ := σ) (s := s) (noun := noun) hs a2 (d := d) (by omega)
    rw [← eo, ← ea] at rC
    have c106 : ∀ b, (0 ≤ b ∧ b < 24) → (0 ≤ σ fW_contraries 0 b ∧ σ fW_contraries 0 b < 24) → u_phrase_106 d σ o b = some (0, ga_up (ga_up σ fW_told o b 1) fW_told o (σ fW_contraries 0 b) 0) := by
      intro b h1 h2
      rw [e_u_phrase_106, ck_ok _ (by omega), nn_ok _ ob.1, ck_ok _ h1, ck_ok _ (by omega), ck_ok _ h1, nn_ok _ ob.1, ck_ok _ h2]
    have told : ∀ b c r x : Int, (ga_up (ga_up σ fW_told o b 1) fW_told o c 0) fW_told r x = if r = o ∧ x = c then 0 else if r = o ∧ x = b then 1 else σ fW_told r x := by
      intro b c r x
      rw [up_nat, up_nat]
    by_cases n0 : σ fS_not s 0 = 0
    · rw [if_pos n0, c106 a (by omega) (by omega)] at rC
      refine fin a _ (ga_up (ga_up τ fM_objectIs 0 (24 * o + a) 1) fM_objectIs 0 (24 * o + σ fW_contraries 0 a) 2) ⟨a4, a5⟩ hc rC ?_ (fr_trans (fr_u (by decide)) (fr_u (by decide))) (told a _) (fr_trans (L := [fM_objectIs]) (fr_u (by decide)) (fr_u (by decide))) (fun i => ?_)
      · rw [rM, t1, n0, if_pos rfl, e_m_nows_265, ck_ok _ (by omega), ck_ok _ (by omega), ck_ok _ hq, t1, n0, if_pos rfl, w6, w32_ok (x := 24 * o) (by omega), w32_ok (x := 24 * o + σ fW_contraries 0 a) (by omega), e_m_nows_296, ck_ok _ (by omega)]
      · rw [up_at, up_at]
    · rw [if_neg n0, ck_ok _ (by omega), c106 (σ fW_contraries 0 a) (by omega) (by omega)] at rC
      refine fin (σ fW_contraries 0 a) _ (ga_up (ga_up τ fM_objectIs 0 (24 * o + a) 2) fM_objectIs 0 (24 * o + σ fW_contraries 0 a) 1) ⟨w1, w2⟩ (by rw [w4]; omega) rC ?_ (fr_trans (fr_u (by decide)) (fr_u (by decide))) (told _ _) (fr_trans (L := [fM_objectIs]) (fr_u (by decide)) (fr_u (by decide))) (fun i => ?_)
      · rw [rM, t1, if_neg n0, e_m_nows_265, ck_ok _ (by omega), ck_ok _ (by omega), ck_ok _ hq, t1, if_neg n0, w6, w32_ok (x := 24 * o) (by omega), w32_ok (x := 24 * o + σ fW_contraries 0 a) (by omega), e_m_nows_296, ck_ok _ (by omega)]
      · rw [up_at, up_at, w4]
        by_cases i1 : i = 24 * o + σ fW_contraries 0 a
        · rw [if_pos i1, if_neg (by omega), if_pos i1]
        · rw [if_neg i1, if_neg i1]
  · -- a value
    have Wv := W.2.2.2.2.1
    have v64 := Wv.2.1
    have wv := Wv.2.2.2 _ a6.1 a6.2
    refine setJ (σ fS_value s 0) (σ fS_length s 0) 0 (σ fS_which s 0) a5 ⟨fun z => by omega, fun z => by omega, fun _ => ⟨a6.1, a6.2, a8⟩⟩ (fun z => by omega) (ph_1 hs a2 eo (by omega) (by omega) (by omega)) (nw_3 hq (by omega) (by omega) (by omega) a1 a4 d') ?_
    rw [runM]
    refine (if_neg (show ¬ τ fM_qForm 0 q = 5 by rw [a1]; decide)).trans ?_
    show ga_ck q 2400 (if τ fM_qForm 0 q = 3 then ga_ck q 2400 (if τ fM_qWhat 0 q < 100 then _ else m_nows_300 d' τ q o) else m_nows_300 d' τ q o) = _
    rw [ck_ok _ hq, if_pos a1, ck_ok _ hq, if_neg (by omega)]
  · rcases a1 with z | z
    · exact absurd z.2 N.2.1
    · exact absurd z.2 N.2.2
  · -- a number, a text, a value
    have r300 : c_m_nows (d' + 1) τ q noun' = m_nows_300 d' τ q o := by
      rw [runM]
      refine (if_neg (show ¬ τ fM_qForm 0 q = 5 by rw [a1]; decide)).trans ?_
      show ga_ck q 2400 (if τ fM_qForm 0 q = 3 then _ else m_nows_300 d' τ q o) = _
      rw [ck_ok _ hq, if_neg (by rw [a1]; decide)]
    have m300 := nw_0 (τ := τ) hq (o := o) (by omega) (p := σ fS_which s 0) (by omega) (by rw [a1]; decide) a2 d'
    rw [a5] at m300
    rcases a6 with ⟨b1, b2, b3, b4⟩ | ⟨b1, b2, b3, b4, b5, b6, b7⟩ | ⟨b1, b2, b3⟩
    · exact setJ (σ fS_value s 0) (σ fS_length s 0) _ (σ fS_which s 0) a3 ⟨fun z => by omega, fun z => by omega, fun z => by omega⟩ (fun z => by omega) (ph_3 hs b1 eo (by omega) (by omega) (by omega)) m300 r300
    · exact setJ (σ fS_value s 0) (σ fS_length s 0) _ (σ fS_which s 0) a3 ⟨fun z => by omega, fun _ => ⟨b5, b4, b6, b7⟩, fun z => by omega⟩ (fun z => b3) (ph_4 hs b1 eo (by omega) (by omega) (by omega)) m300 r300
    · have wv := W.2.2.2.2.1.2.2.2 _ b2.1 b2.2
      exact setJ (σ fS_value s 0) (σ fS_length s 0) _ (σ fS_which s 0) a3 ⟨fun z => by omega, fun z => by omega, fun _ => ⟨b2.1, b2.2, b3⟩⟩ (fun z => by omega) (ph_1 hs b1 eo (by omega) (by omega) (by omega)) m300 r300
end

/-! tests, on both sides -/
section
variable {σ τ : ga_S} {g : Int}
/-- an object of a kind, where one is wanted -/
def IVk (σ : ga_S) (k o : Int) : Prop := k ≠ -1 → (0 ≤ o ∧ o < σ fW_objects 0 0) ∧ isB (σ fW_parents 0) (σ fW_kindOf 0 o) k = true
def obT (v it noun : Int) : Int := if v = -2 then it else if v = -3 then noun else v
theorem k_obj (v it noun : Int) {d : Nat} (hd : 1 ≤ d) : c_u_object d σ v it noun = some (obT v it noun, σ) := by
  obtain ⟨d, rfl⟩ : ∃ e, d = e + 1 := ⟨d - 1, by omega⟩
  unfold obT
  rw [e_u_object]
  by_cases c : v = -2
  · rw [if_pos c, if_pos c]
  · rw [if_neg c, if_neg c]
    by_cases c2 : v = -3
    · rw [if_pos c2, if_pos c2]
    · rw [if_neg c2, if_neg c2]
theorem m_obj {ik nk v : Int} (h : thO σ ik nk v) (it noun : Int) {d : Nat} (hd : 1 ≤ d) : c_m_thingIs d τ (mT v) it noun = some (obT v it noun, τ) := by
  obtain ⟨d, rfl⟩ : ∃ e, d = e + 1 := ⟨d - 1, by omega⟩
  unfold obT mT
  rw [e_m_thingIs]
  rcases h with ⟨rfl, _⟩ | ⟨rfl, _⟩ | h
  · rfl
  · rfl
  · rw [if_neg (by omega), if_neg (by omega), if_neg (by omega), if_neg (by omega), if_neg (by omega), if_neg (by omega), if_neg (by omega)]
theorem ob_eq {ik nk v it noun noun' : Int} (h : thO σ ik nk v) (e : nk ≠ -1 → noun' = noun) : obT v it noun' = obT v it noun := by
  unfold obT
  rcases h with h | h | h
  · rw [if_pos h.1, if_pos h.1]
  · rw [e h.2]
  · rw [if_neg (by omega), if_neg (by omega), if_neg (by omega), if_neg (by omega)]
theorem ob_r (X : SX σ τ g) {ik nk v it noun : Int} (h : thO σ ik nk v) (hi : IVk σ ik it) (hn : IVk σ nk noun) : (0 ≤ obT v it noun ∧ obT v it noun < σ fW_objects 0 0) ∧ isB (σ fW_parents 0) (σ fW_kindOf 0 (obT v it noun)) (kdT σ ik nk v) = true := by
  unfold obT kdT
  rcases h with h | h | h
  · rw [if_pos h.1, if_pos h.1]; exact hi h.2
  · rw [if_neg (by omega), if_pos h.1, if_neg (by omega), if_pos h.1]; exact hn h.2
  · rw [if_neg (by omega), if_neg (by omega), if_neg (by omega), if_neg (by omega)]
    have wo := X.1.2.1.2.2.2 v h.1 h.2
    exact ⟨h, isB_rf X.1.1.1 wo.1 wo.2.1⟩
theorem te_end {s n : Int} (b : Bool) (h0 : 0 ≤ s) (hn : σ fS_not s 0 = n) (d : Nat) : u_test_284 d σ s (b2i b) = some (b2i (decide (¬ b2i b = n)), σ) := by
  rw [e_u_test_284, nn_ok _ h0, hn]
  by_cases c : b2i b = n
  · rw [if_pos c, decide_eq_false (fun z => z c)]; rfl
  · rw [if_neg c, decide_eq_true c]; rfl
theorem tm_end {q n : Int} (b : Bool) (h0 : 0 ≤ q ∧ q < 2400) (hn : τ fM_qNot 0 q = n) (d : Nat) : m_tested_288 d τ q (b2i b) = some (b2i (decide (¬ b2i b = n)), τ) := by
  rw [e_m_tested_288, ck_ok _ h0, hn]
  by_cases c : b2i b = n
  · rw [if_pos c, decide_eq_false (fun z => z c)]; rfl
  · rw [if_neg c, decide_eq_true c]; rfl
/-- letters are compared, component -/
theorem k_text_l {s r : Int} (hs : 0 ≤ s) (hr : 0 ≤ r ∧ r < 40) {p v w n : Int} (hp : 0 ≤ p ∧ p < 12) (ep : σ fS_which s 0 = p) (ev : σ fW_numbers r p = v) (ew : σ fS_value s 0 = w) (hv : 0 ≤ v ∧ v + n ≤ 5000) (hw : 0 ≤ w ∧ w + n ≤ 5000) (hb : σ fT_bytes 1 = σ fT_bytes 0) (d : Nat) : ∀ i, 0 ≤ i → ∀ b : Bool, u_isText_57 d σ s r n (b2i b) i = some (b2i (b && tEq (σ fT_bytes 0) v w i n), σ) := by
  refine rg_ind (n := n) ?_ ?_
  · intro i h i0 b
    rw [e_u_isText_57, if_neg (by omega), tEq_n h, Bool.and_true, z1_ok _ (b2i_01 _)]
  · intro i h ih i0 b
    rw [e_u_isText_57, if_pos h]
    cases b with
    | false => rw [if_pos b2i_f, Bool.false_and, z1_ok _ (b2i_01 _)]
    | true =>
      rw [if_neg b2i_n, nn_ok _ (by decide), ck_ok _ hr, nn_ok _ hs, nn_ok _ hr.1, ep, ck_ok _ hp, nn_ok _ (by decide), ev, ew, w32_ok (x := v + i) (by omega), w32_ok (x := w + i) (by omega), ck_ok _ (by omega), nn_ok _ (by decide), nn_ok _ hs, nn_ok _ (by decide), ck_ok _ (by omega), show (0 + 1 : Int) = 1 from rfl, hb, tEq_s h]
      by_cases c : σ fT_bytes 0 (v + i) = σ fT_bytes 0 (w + i)
      · rw [if_pos c, e_u_isText_117, w32_ok (by omega)]
        have := ih (by omega) true
        rw [show b2i true = 1 from rfl] at this
        rw [this, decide_eq_true c, Bool.true_and, Bool.true_and]
      · rw [if_neg c, e_u_isText_117, w32_ok (by omega)]
        have := ih (by omega) false
        rw [show b2i false = 0 from rfl] at this
        rw [this, decide_eq_false c, Bool.false_and]; rfl
/-- what a test of a definition or a rule says -/
theorem test_J (X : SX σ τ g) (hst : τ fM_story 0 = σ fT_bytes 0 ∧ σ fT_bytes 1 = σ fT_bytes 0 ∧ σ fT_size 0 0 ≤ 5000) {ik nk s q it noun noun' w : Int} (T : stT σ ik nk false σ τ s q) (hs : 0 ≤ s) (hq : 0 ≤ q ∧ q < 2400) (hi : IVk σ ik it) (hn : IVk σ nk noun) (hnn : nk ≠ -1 → noun' = noun) {d d' : Nat} (hd : 5 ≤ d) (hd' : 3 ≤ d') (H : ∀ o a, (0 ≤ o ∧ o < σ fW_objects 0 0) → (0 ≤ a ∧ a < σ fW_adjectives 0 0) → ∃ b τ', c_u_holds d σ o a = some (b2i b, σ) ∧ c_m_holds d' τ o a w = some (b2i b, τ') ∧ fr [fM_numberLong] τ τ') : ∃ b τ', c_u_test (d + 1) σ s it noun = some (b2i b, σ) ∧ c_m_tested (d' + 1) τ q it noun' w = some (b2i b, τ') ∧ fr [fM_numberLong] τ τ' := by
  obtain ⟨⟨t1, t2⟩, t3, t4, T⟩ := T
  have W := X.1
  have fo := W.1.1
  have Wo := W.2.1
  have o24 := Wo.2.1
  have Wp := W.2.2.2.2.2.1
  have p12 := Wp.2.1
  have ob := ob_r X t4 hi hn
  obtain ⟨o, eo⟩ : ∃ o, o = obT (σ fS_thing s 0) it noun := ⟨_, rfl⟩
  rw [← eo] at ob
  have wo := Wo.2.2.2 o ob.1.1 ob.1.2
  have ko : c_u_object d σ (σ fS_thing s 0) it noun = some (o, σ) := by rw [eo]; exact k_obj _ _ _ (by omega)
  have mo : c_m_thingIs d' τ (τ fM_qThing 0 q) it noun' = some (o, τ) := by rw [t3, eo, ← ob_eq t4 hnn]; exact m_obj t4 it noun' (by omega)
  have ck : ∀ x : Option ga_R, ga_ck q 2400 x = x := fun x => ck_ok _ hq
  have nn : ∀ x : Option ga_R, ga_nn s x = x := fun x => nn_ok _ hs
  have rC := e_u_test d σ s it noun
  rw [ko] at rC
  simp only [nn, Option.bind_some] at rC
  have rM := e_m_tested d' τ q it noun' w
  rw [mo] at rM
  simp only [ck, Option.bind_some] at rM
  -- numbers of both sides
  have num : ∀ p, (0 ≤ p ∧ p < σ fW_properties 0 0) → ∃ v l υ, c_m_numberOf d' τ o p = some (v, υ) ∧ υ = ga_up τ fM_numberLong 0 0 l ∧ fr [fM_numberLong] τ υ ∧ c_w_number d σ o p = some (numV σ o p, σ) ∧ (σ fW_propertyTypes 0 p ≠ 1 → v = numV σ o p) := by
    intro p hp
    obtain ⟨v, l, n1, n2, _⟩ := nm_J X ob.1 hp (d := d') (by omega)
    exact ⟨v, l, _, n1, rfl, fr_u (by decide), s_w_number (σ := σ) fo (by omega) (by omega) (by omega) W.2.2.2.2.1.2.1 (by omega) wo.2.1, n2⟩
  rcases T with ⟨a1, a2, a3, a4, a5, a6, a7, a8⟩ | ⟨a1, a2, a3, a4, a5⟩ | ⟨a1, a2, a3, a4, a5, a6⟩ | ⟨a1, a2, a3, a4, a5, a6, a7, a8⟩ | ⟨a1, a2, a3, a4, a5, a6⟩ | ⟨a1, a2, a3, a4, a5, a6⟩
  · -- related
    have ob2 := ob_r X a5 hi hn
    obtain ⟨x, ex⟩ : ∃ x, x = obT (σ fS_other s 0) it noun := ⟨_, rfl⟩
    rw [← ex] at ob2
    have k2 : c_u_object d σ (σ fS_other s 0) it noun = some (x, σ) := by rw [ex]; exact k_obj _ _ _ (by omega)
    have m2 : c_m_thingIs d' τ (τ fM_qOther 0 q) it noun' = some (x, τ) := by rw [a4, ex, ← ob_eq a5 hnn]; exact m_obj a5 it noun' (by omega)
    have r6 := W.2.2.2.2.2.2.1.2.1
    have e := (X.2.1.2.2.2.2.1 (σ fS_which s 0) a7 a8).2.2.2.2 (24 * o + x) (by omega) (by omega)
    rw [a3, if_neg (by decide), if_neg (by decide), if_neg (by decide), if_neg (by decide), if_neg (by decide), if_neg (by decide), if_neg (by decide), ck_ok _ (by omega), k2] at rC
    simp only [Option.bind_some] at rC
    rw [nn_ok _ a7, w32_ok (x := 24 * o) (by omega), w32_ok (x := 24 * o + x) (by omega), ck_ok _ (by omega)] at rC
    rw [if_pos a1, m2] at rM
    simp only [Option.bind_some] at rM
    rw [a6, w32_ok (x := 24 * o) (by omega), w32_ok (x := 576 * σ fS_which s 0) (by omega), w32_ok (x := 576 * σ fS_which s 0 + 24 * o) (by omega), w32_ok (x := 576 * σ fS_which s 0 + 24 * o + x) (by omega), ck_ok _ (by omega), Int.add_assoc (576 * σ fS_which s 0), e.2, z1_ok _ e.1] at rM
    rcases e.1 with z | z
    · rw [z] at rC rM
      have te := te_end (σ := σ) (s := s) false hs a2 d
      exact ⟨false, τ, rC.trans te, rM, fr_refl _ _⟩
    · rw [z] at rC rM
      have te := te_end (σ := σ) (s := s) true hs a2 d
      exact ⟨true, τ, rC.trans te, rM, fr_refl _ _⟩
  · -- a spot
    have ob2 := ob_r X a5 hi hn
    obtain ⟨x, ex⟩ : ∃ x, x = obT (σ fS_other s 0) it noun := ⟨_, rfl⟩
    rw [← ex] at ob2
    have k2 : c_u_object d σ (σ fS_other s 0) it noun = some (x, σ) := by rw [ex]; exact k_obj _ _ _ (by omega)
    have m2 : c_m_thingIs d' τ (τ fM_qOther 0 q) it noun' = some (x, τ) := by rw [a4, ex, ← ob_eq a5 hnn]; exact m_obj a5 it noun' (by omega)
    have wp := X.2.1.2.2.1.1 o ob.1.1 ob.1.2
    have eT : τ fM_there 0 o = σ fW_placeAt 0 o := by
      rcases wp.2.2 with z | z
      · rw [z.2.1, z.2.2]
      · exact z.2.1
    have co : ∀ y : Option ga_R, ga_ck o 24 y = y := fun y => ck_ok _ (by omega)
    rw [a2, if_neg (by decide), if_neg (by decide), if_pos rfl, k2] at rC
    simp only [co, Option.bind_some, e_u_test_248, e_u_test_249] at rC
    rw [if_neg (by omega), if_neg (by omega), if_pos a1, m2] at rM
    simp only [co, Option.bind_some, e_m_tested_140, e_m_tested_141] at rM
    rw [wp.1, a3, eT] at rM
    have te := fun b => te_end (σ := σ) (s := s) (n := σ fS_not s 0) b hs rfl d
    have tm := fun b => tm_end (τ := τ) (q := q) (n := σ fS_not s 0) b hq t1 d'
    by_cases c : σ fW_placed 0 o = σ fS_which s 0
    · rw [if_pos c] at rC rM
      by_cases c2 : σ fW_placeAt 0 o = x
      · rw [if_pos c2] at rC rM
        exact ⟨_, τ, rC.trans (te true), rM.trans (tm true), fr_refl _ _⟩
      · rw [if_neg c2] at rC rM
        exact ⟨_, τ, rC.trans (te false), rM.trans (tm false), fr_refl _ _⟩
    · rw [if_neg c] at rC rM
      exact ⟨_, τ, rC.trans (te false), rM.trans (tm false), fr_refl _ _⟩
  · -- an adjective
    have fa := (Bool.and_eq_true _ _).mp a6
    have a24 := W.2.2.1.2.1
    have kb := isB_tr fo (by omega) wo.2.1 ob.2 fa.1
    have kk := s_w_isKind (σ := σ) fo (d := d) (by omega) (o := o) (σ fW_adjectiveKinds 0 (σ fS_which s 0)) (by omega) (by omega) wo.2.1
    rw [kb] at kk
    obtain ⟨b, τ', h1, h2, h3⟩ := H o (σ fS_which s 0) ob.1 ⟨a4, a5⟩
    rw [a2, if_pos rfl, ck_ok _ (by omega), kk] at rC
    simp only [Option.bind_some] at rC
    rw [if_neg b2i_n, h1] at rC
    simp only [Option.bind_some, e_u_test_97, e_u_test_98] at rC
    rw [if_neg (by omega), if_pos a1, a3, h2] at rM
    simp only [Option.bind_some] at rM
    have te := fun b => te_end (σ := σ) (s := s) (n := σ fS_not s 0) b hs rfl d
    have tm := fun b => tm_end (τ := τ') (q := q) (n := σ fS_not s 0) b hq (by rw [h3 _ (by decide)]; exact t1) d'
    cases b with
    | true =>
      rw [if_neg b2i_n] at rC
      exact ⟨_, τ', rC.trans (te true), rM.trans (tm true), h3⟩
    | false =>
      rw [if_pos b2i_f] at rC
      exact ⟨_, τ', rC.trans (te false), rM.trans (tm false), h3⟩
  · -- a value as an adjective
    obtain ⟨v, l, υ, n1, n2, n3, n4, n5⟩ := num _ a5
    have v64 := W.2.2.2.2.1.2.1
    have wv := W.2.2.2.2.1.2.2.2 (σ fS_value s 0) a6.1 a6.2
    have ty : σ fW_propertyTypes 0 (σ fS_which s 0) ≠ 1 := by rw [← a8]; omega
    have mh : c_m_holds d' τ o (τ fM_qWhat 0 q) w = some (b2i (decide (v = σ fS_value s 0)), υ) := by
      obtain ⟨e, rfl⟩ : ∃ e, d' = e + 1 := ⟨d' - 1, by omega⟩
      have n1' : c_m_numberOf e τ o (σ fS_which s 0) = some (v, υ) := by
        obtain ⟨v', l', m1, m2, _⟩ := nm_J X ob.1 a5 (d := e) (by omega)
        have := am_mono m1 (Nat.le_succ e)
        rw [show am_run (e + 1) = am_run e.succ from rfl] at *
        rw [m1]
        have q1 : c_m_numberOf (e + 1) τ o (σ fS_which s 0) = some (v', ga_up τ fM_numberLong 0 0 l') := this
        rw [q1] at n1
        exact n1
      rw [e_m_holds, a4, if_neg (by omega), show Int.tmod (100 + 100 * σ fS_value s 0 + σ fS_which s 0) 100 = σ fS_which s 0 by rw [Int.tmod_eq_emod_of_nonneg (by omega)]; omega, w32_ok (x := σ fS_which s 0) (by omega), n1', Option.bind_some, show Int.tdiv (100 + 100 * σ fS_value s 0 + σ fS_which s 0) 100 = 1 + σ fS_value s 0 by rw [Int.tdiv_eq_ediv_of_nonneg (by omega)]; omega, w32_ok (x := 1 + σ fS_value s 0) (by omega), w32_ok (by omega), show 1 + σ fS_value s 0 - 1 = σ fS_value s 0 by omega]
      show (if v = σ fS_value s 0 then some ((1 : Int), υ) else some (0, υ)) = _
      by_cases c : v = σ fS_value s 0
      · rw [if_pos c, decide_eq_true c]; rfl
      · rw [if_neg c, decide_eq_false c]; rfl
    rw [a2, if_neg (by decide), if_pos rfl, n4] at rC
    simp only [Option.bind_some, e_u_test_128] at rC
    rw [if_neg (by omega), if_pos a1, mh] at rM
    simp only [Option.bind_some] at rM
    have te := fun b => te_end (σ := σ) (s := s) (n := σ fS_not s 0) b hs rfl d
    have tm := fun b => tm_end (τ := υ) (q := q) (n := σ fS_not s 0) b hq (by rw [n3 _ (by decide)]; exact t1) d'
    rw [n5 ty] at rM
    by_cases c : numV σ o (σ fS_which s 0) = σ fS_value s 0
    · rw [if_pos c] at rC
      rw [decide_eq_true c] at rM
      exact ⟨_, υ, rC.trans (te true), rM.trans (tm true), n3⟩
    · rw [if_neg c] at rC
      rw [decide_eq_false c] at rM
      exact ⟨_, υ, rC.trans (te false), rM.trans (tm false), n3⟩
  · -- less or more
    obtain ⟨v, l, υ, n1, n2, n3, n4, n5⟩ := num _ a3
    have ev := n5 (by omega)
    have pt := (Wp.2.2.2.1 _ a3.1 a3.2).2.2
    have te := fun b => te_end (σ := σ) (s := s) (n := σ fS_not s 0) b hs rfl d
    have tm := fun b => tm_end (τ := υ) (q := q) (n := σ fS_not s 0) b hq (by rw [n3 _ (by decide)]; exact t1) d'
    rw [if_neg (by omega), if_neg (by omega), if_neg (by omega), a2, n1] at rM
    simp only [Option.bind_some] at rM
    rw [n3 fM_qProperty (by decide), a2, ck_ok _ (by omega), n3 fM_propertyType (by decide), pt, if_neg (by omega), e_m_tested_180] at rM
    simp only [ck, e_m_tested_286] at rM
    rw [n3 fM_qForm (by decide), n3 fM_qWhat (by decide), a6, ev] at rM
    rcases a1 with ⟨f1, f2⟩ | ⟨f1, f2⟩
    · rw [f2, if_neg (by decide), if_neg (by decide), if_neg (by decide), if_neg (by decide), if_neg (by decide), if_pos rfl, n4] at rC
      simp only [Option.bind_some, e_u_test_170] at rC
      rw [if_pos f1] at rM
      by_cases c : numV σ o (σ fS_which s 0) < σ fS_value s 0
      · rw [if_pos c] at rC rM
        exact ⟨_, υ, rC.trans (te true), rM.trans (tm true), n3⟩
      · rw [if_neg c] at rC rM
        exact ⟨_, υ, rC.trans (te false), rM.trans (tm false), n3⟩
    · rw [f2, if_neg (by decide), if_neg (by decide), if_neg (by decide), if_neg (by decide), if_neg (by decide), if_neg (by decide), if_pos rfl, n4] at rC
      simp only [Option.bind_some, e_u_test_200] at rC
      rw [if_neg (by omega), if_pos f1] at rM
      by_cases c : σ fS_value s 0 < numV σ o (σ fS_which s 0)
      · rw [if_pos c] at rC rM
        exact ⟨_, υ, rC.trans (te true), rM.trans (tm true), n3⟩
      · rw [if_neg c] at rC rM
        exact ⟨_, υ, rC.trans (te false), rM.trans (tm false), n3⟩
  · -- a number, a value, a text
    have pt := (Wp.2.2.2.1 _ a3.1 a3.2).2.2
    by_cases ty : σ fW_propertyTypes 0 (σ fS_which s 0) = 1
    · -- a text
      obtain ⟨w1, w2, w3, w4, w5, w6⟩ : σ fS_what s 0 = 4 ∧ σ fW_propertyTypes 0 (σ fS_which s 0) = 1 ∧ τ fM_qLong 0 q = σ fS_length s 0 ∧ 0 ≤ σ fS_length s 0 ∧ 0 ≤ σ fS_value s 0 ∧ σ fS_value s 0 + σ fS_length s 0 ≤ σ fT_size 0 0 := by
        rcases a6 with z | z | z
        · omega
        · exact ⟨z.1, z.2.1, z.2.2.1, z.2.2.2.1, z.2.2.2.2.1, z.2.2.2.2.2.1⟩
        · have wv := W.2.2.2.2.1.2.2.2 (σ fS_value s 0) z.2.1.1 z.2.1.2
          omega
      obtain ⟨v, l, n1, _, n3, n4⟩ := nm_J X ob.1 a3 (d := d') (by omega)
      obtain ⟨υ, eu⟩ : ∃ x, x = ga_up τ fM_numberLong 0 0 l := ⟨_, rfl⟩
      have fu : fr [fM_numberLong] τ υ := by rw [eu]; exact fr_u (by decide)
      have ul : υ fM_numberLong 0 0 = l := by rw [eu, up_eq]
      rw [← eu] at n1
      obtain ⟨m1, m2, m3⟩ := n3 ty
      have te := fun b => te_end (σ := σ) (s := s) (n := σ fS_not s 0) b hs rfl d
      have tm := fun b => tm_end (τ := υ) (q := q) (n := σ fS_not s 0) b hq (by rw [fu _ (by decide)]; exact t1) d'
      have kh := s_w_hasAt (σ := σ) fo (d := d - 1) (by omega) (o := o) (p := σ fS_which s 0) (by omega) (by omega) (by omega) wo.2.1
      rw [if_neg (by omega), if_neg (by omega), if_neg (by omega), a2, n1] at rM
      simp only [Option.bind_some] at rM
      rw [fu fM_qProperty (by decide), a2, ck_ok _ (by omega), fu fM_propertyType (by decide), pt, if_pos ty, e_m_tested_180] at rM
      simp only [ck, e_m_tested_286] at rM
      rw [fu fM_qForm (by decide), if_neg (by omega), if_neg (by omega), if_neg (by decide), ul, fu fM_qWhat (by decide), a5, fu fM_qLong (by decide), w3] at rM
      rw [w1, if_neg (by decide), if_neg (by decide), if_neg (by decide), if_neg (by decide), if_pos rfl] at rC
      -- both compare the same letters
      have both : ∃ b, c_u_isText d σ o s = some (b2i b, σ) ∧ c_m_isSameText d' υ v l (σ fS_value s 0) (σ fS_length s 0) = some (b2i b, υ) := by
        obtain ⟨e, ed⟩ : ∃ e, d = e + 1 := ⟨d - 1, by omega⟩
        rw [ed, show e + 1 - 1 = e by omega] at kh
        rw [ed, e_u_isText]
        simp only [nn]
        rw [kh, Option.bind_some]
        by_cases z : hasRow σ o (σ fS_which s 0) = -1
        · obtain ⟨l0, v0⟩ := m2 z
          refine ⟨decide (0 = σ fS_length s 0), ?_, ?_⟩
          · show (if hasRow σ o (σ fS_which s 0) = -1 then u_isText_36 e σ s (hasRow σ o (σ fS_which s 0)) 0 else _) = _
            rw [if_pos z, e_u_isText_36, nn_ok _ hs]
            by_cases c : (0 : Int) = σ fS_length s 0
            · rw [if_pos c, e_u_isText_52, e_u_isText_57, if_neg (by decide), decide_eq_true c]; rfl
            · rw [if_neg c, e_u_isText_52, e_u_isText_57, if_neg (by decide), decide_eq_false c]; rfl
          · rw [l0, v0, m_isSameText (by decide) (by omega) (by omega), tEq_n (Int.le_refl _), Bool.and_true]
        · obtain ⟨v1, v2⟩ := m3 z
          have vl := v1.2.1 ty
          have le : σ fW_lengths (hasRow σ o (σ fS_which s 0)) (σ fS_which s 0) = l := by rw [m1]; unfold lenV; rw [if_neg z]
          have same : tEq (σ fT_bytes 0) v (σ fS_value s 0) 0 l = tEq (σ fT_bytes 0) (σ fW_numbers (hasRow σ o (σ fS_which s 0)) (σ fS_which s 0)) (σ fS_value s 0) 0 l := by
            rw [Bool.eq_iff_iff, tEq_1, tEq_1]
            exact ⟨fun h j j0 j1 => by rw [← v2.2.2 j j0 j1]; exact h j j0 j1, fun h j j0 j1 => by rw [v2.2.2 j j0 j1]; exact h j j0 j1⟩
          refine ⟨decide (l = σ fS_length s 0) && tEq (σ fT_bytes 0) (σ fW_numbers (hasRow σ o (σ fS_which s 0)) (σ fS_which s 0)) (σ fS_value s 0) 0 l, ?_, ?_⟩
          · show (if hasRow σ o (σ fS_which s 0) = -1 then _ else ga_ck (hasRow σ o (σ fS_which s 0)) 40 (ga_nn (hasRow σ o (σ fS_which s 0)) (ga_ck (σ fS_which s 0) 12 (u_isText_36 e σ s (hasRow σ o (σ fS_which s 0)) (σ fW_lengths (hasRow σ o (σ fS_which s 0)) (σ fS_which s 0)))))) = _
            rw [if_neg z, ck_ok _ (by omega), nn_ok _ (by omega), ck_ok _ (by omega), le, e_u_isText_36, nn_ok _ hs]
            by_cases c : l = σ fS_length s 0
            · have kt := k_text_l (σ := σ) (s := s) (r := hasRow σ o (σ fS_which s 0)) hs (by omega) (p := σ fS_which s 0) (n := l) (by omega) rfl rfl rfl (by omega) (by omega) hst.2.1 e 0 (Int.le_refl _) true
              rw [show b2i true = 1 from rfl] at kt
              rw [if_pos c, e_u_isText_52, kt, decide_eq_true c]
            · rw [if_neg c, e_u_isText_52, e_u_isText_57, decide_eq_false c, Bool.false_and]
              by_cases c2 : 0 < l
              · rw [if_pos c2, if_pos rfl]; rfl
              · rw [if_neg c2]; rfl
          · rw [m_isSameText ⟨v2.1, by have := v2.2.1; omega⟩ ⟨w5, fun c => by omega⟩ (by omega), fu _ (by decide), hst.1, same]
      obtain ⟨b, x1, x2⟩ := both
      rw [x1] at rC
      rw [x2] at rM
      simp only [Option.bind_some] at rC rM
      exact ⟨_, υ, rC.trans (te b), rM.trans (tm b), fu⟩
    · obtain ⟨v, l, υ, n1, n2, n3, n4, n5⟩ := num _ a3
      have ev := n5 ty
      have te := fun b => te_end (σ := σ) (s := s) (n := σ fS_not s 0) b hs rfl d
      have tm := fun b => tm_end (τ := υ) (q := q) (n := σ fS_not s 0) b hq (by rw [n3 _ (by decide)]; exact t1) d'
      rw [if_neg (by omega), if_neg (by omega), if_neg (by omega), a2, n1] at rM
      simp only [Option.bind_some] at rM
      rw [n3 fM_qProperty (by decide), a2, ck_ok _ (by omega), n3 fM_propertyType (by decide), pt, if_neg ty, e_m_tested_180] at rM
      simp only [ck, e_m_tested_286] at rM
      rw [n3 fM_qForm (by decide), n3 fM_qWhat (by decide), a5, ev, if_neg (by omega), if_neg (by omega), if_pos trivial] at rM
      have rC' : c_u_test (d + 1) σ s it noun = if numV σ o (σ fS_which s 0) = σ fS_value s 0 then u_test_284 d σ s 1 else u_test_284 d σ s 0 := by
        rcases a6 with z | z | z
        · rw [z.1, if_neg (by decide), if_neg (by decide), if_neg (by decide), if_pos rfl, n4] at rC
          simp only [Option.bind_some, e_u_test_128] at rC
          exact rC
        · exact absurd z.2.1 ty
        · rw [z.1, if_neg (by decide), if_pos rfl, n4] at rC
          simp only [Option.bind_some, e_u_test_128] at rC
          exact rC
      by_cases c : numV σ o (σ fS_which s 0) = σ fS_value s 0
      · rw [if_pos c] at rC' rM
        exact ⟨_, υ, rC'.trans (te true), rM.trans (tm true), n3⟩
      · rw [if_neg c] at rC' rM
        exact ⟨_, υ, rC'.trans (te false), rM.trans (tm false), n3⟩
end

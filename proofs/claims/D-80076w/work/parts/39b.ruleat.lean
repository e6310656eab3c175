/-! the order of the rules, on the model's side -/
section
variable {σ τ : ga_S}
/-- what the model keeps of the rules -/
def RM (σ τ : ga_S) : Prop := τ fM_rules 0 0 = σ fW_rules 0 0 ∧ (∀ k, 0 ≤ k → k < σ fW_kinds 0 0 → τ fM_above 0 k = σ fW_parents 0 k) ∧ ∀ l, 0 ≤ l → l < σ fW_rules 0 0 → τ fM_ruleSort 0 l = rS σ l ∧ τ fM_ruleObject 0 l = σ fQ_object (σ fW_rule 0 l) 0 ∧ τ fM_ruleKind 0 l = σ fQ_kind (σ fW_rule 0 l) 0 ∧ τ fM_ruleAdjectives 0 l = σ fQ_adjectives (σ fW_rule 0 l) 0 ∧ τ fM_ruleTests 0 l = rT σ l
def oc (σ : ga_S) (i : Int) : Int := if σ fQ_object (σ fW_rule 0 i) 0 = -1 then (if σ fQ_kind (σ fW_rule 0 i) 0 = -1 then 2 else 1) else 0
theorem m_orderClass (R : RU0 σ) (M : RM σ τ) {i : Int} (h0 : 0 ≤ i) (h1 : i < σ fW_rules 0 0) {d : Nat} (hd : 1 ≤ d) : c_m_orderClass d τ i = some (oc σ i, τ) := by
  obtain ⟨d, rfl⟩ : ∃ e, d = e + 1 := ⟨d - 1, by omega⟩
  have r24 := R.1.2
  obtain ⟨m1, m2, m3, m4, m5⟩ := M.2.2 i h0 h1
  unfold oc
  rw [e_m_orderClass, ck_ok _ (by omega), ck_ok _ (by omega), m2, m3]
  by_cases c : σ fQ_object (σ fW_rule 0 i) 0 = -1
  · rw [if_pos c, if_pos c]
    by_cases e : σ fQ_kind (σ fW_rule 0 i) 0 = -1
    · rw [if_pos e, if_pos e]
    · rw [if_neg e, if_neg e]
  · rw [if_neg c, if_neg c]
theorem m_isAhead_t (R : RU0 σ) (M : RM σ τ) {i j : Int} (h0 : 0 ≤ i) (h1 : i < σ fW_rules 0 0) (g0 : 0 ≤ j) (g1 : j < σ fW_rules 0 0) (d : Nat) : m_isAhead_138 d τ i j = some (b2i (decide (rT σ j < rT σ i ∨ (rT σ i = rT σ j ∧ i < j))), τ) := by
  have r24 := R.1.2
  have mi := (M.2.2 i h0 h1).2.2.2.2
  have mj := (M.2.2 j g0 g1).2.2.2.2
  rw [e_m_isAhead_138, ck_ok _ (by omega), ck_ok _ (by omega), ck_ok _ (by omega), ck_ok _ (by omega), mi, mj]
  by_cases e : rT σ i = rT σ j
  · rw [if_pos e]
    by_cases q : i < j
    · rw [if_pos q, decide_eq_true (by omega)]; rfl
    · rw [if_neg q, decide_eq_false (by omega)]; rfl
  · rw [if_neg e]
    by_cases q : rT σ j < rT σ i
    · rw [if_pos q, decide_eq_true (by omega)]; rfl
    · rw [if_neg q, decide_eq_false (by omega)]; rfl
theorem m_isAhead (R : RU0 σ) (M : RM σ τ) {i j : Int} (h0 : 0 ≤ i) (h1 : i < σ fW_rules 0 0) (g0 : 0 ≤ j) (g1 : j < σ fW_rules 0 0) {d : Nat} (hd : 2 ≤ d) : c_m_isAhead d τ i j = some (b2i (ahd σ i j), τ) := by
  obtain ⟨d, rfl⟩ : ∃ e, d = e + 1 := ⟨d - 1, by omega⟩
  have r24 := R.1.2
  have fo := R.2.1
  have f16 := fo.1
  have hP := M.2.1
  obtain ⟨_, mi2, mi3, mi4, mi5⟩ := M.2.2 i h0 h1
  obtain ⟨_, mj2, mj3, mj4, mj5⟩ := M.2.2 j g0 g1
  obtain ⟨_, _, ri3, ri4⟩ := R.2.2 i h0 h1
  obtain ⟨_, _, rj3, rj4⟩ := R.2.2 j g0 g1
  have tl := m_isAhead_t R M h0 h1 g0 g1 d
  have oi := fun e => m_orderClass R M h0 h1 (d := e + 1) (by omega)
  have oj := fun e => m_orderClass R M g0 g1 (d := e + 1) (by omega)
  obtain ⟨e, rfl⟩ : ∃ e, d = e + 1 := ⟨d - 1, by omega⟩
  rw [e_m_isAhead]
  simp only [oi, oj, Option.bind_some]
  have ci : ∀ x : Option ga_R, ga_ck i 24 x = x := fun x => ck_ok _ (by omega)
  have cj : ∀ x : Option ga_R, ga_ck j 24 x = x := fun x => ck_ok _ (by omega)
  -- how narrow the nouns are
  have ni : (oc σ i = 0 ∧ nar σ i = 100000) ∨ (oc σ i = 1 ∧ (0 ≤ σ fQ_kind (σ fW_rule 0 i) 0 ∧ σ fQ_kind (σ fW_rule 0 i) 0 < σ fW_kinds 0 0) ∧ nar σ i = 1000 + 20 * ((CH (σ fW_parents 0) (σ fQ_kind (σ fW_rule 0 i) 0)).length : Int) + σ fQ_adjectives (σ fW_rule 0 i) 0 ∧ ((CH (σ fW_parents 0) (σ fQ_kind (σ fW_rule 0 i) 0)).length : Int) ≤ 16) ∨ (oc σ i = 2 ∧ nar σ i = 0) := by
    unfold oc nar
    by_cases c : σ fQ_object (σ fW_rule 0 i) 0 = -1
    · rw [if_pos c, if_pos c]
      by_cases q : σ fQ_kind (σ fW_rule 0 i) 0 = -1
      · rw [if_pos q, if_pos q]; exact Or.inr (Or.inr ⟨rfl, rfl⟩)
      · have k := ri3.resolve_left q
        have l := CH_len fo _ (by omega) k.2
        rw [if_neg q, if_neg q]; exact Or.inr (Or.inl ⟨rfl, k, rfl, by omega⟩)
    · rw [if_neg c, if_neg c]; exact Or.inl ⟨rfl, rfl⟩
  have nj : (oc σ j = 0 ∧ nar σ j = 100000) ∨ (oc σ j = 1 ∧ (0 ≤ σ fQ_kind (σ fW_rule 0 j) 0 ∧ σ fQ_kind (σ fW_rule 0 j) 0 < σ fW_kinds 0 0) ∧ nar σ j = 1000 + 20 * ((CH (σ fW_parents 0) (σ fQ_kind (σ fW_rule 0 j) 0)).length : Int) + σ fQ_adjectives (σ fW_rule 0 j) 0 ∧ ((CH (σ fW_parents 0) (σ fQ_kind (σ fW_rule 0 j) 0)).length : Int) ≤ 16) ∨ (oc σ j = 2 ∧ nar σ j = 0) := by
    unfold oc nar
    by_cases c : σ fQ_object (σ fW_rule 0 j) 0 = -1
    · rw [if_pos c, if_pos c]
      by_cases q : σ fQ_kind (σ fW_rule 0 j) 0 = -1
      · rw [if_pos q, if_pos q]; exact Or.inr (Or.inr ⟨rfl, rfl⟩)
      · have k := rj3.resolve_left q
        have l := CH_len fo _ (by omega) k.2
        rw [if_neg q, if_neg q]; exact Or.inr (Or.inl ⟨rfl, k, rfl, by omega⟩)
    · rw [if_neg c, if_neg c]; exact Or.inl ⟨rfl, rfl⟩
  by_cases c : oc σ i = oc σ j
  · rw [if_pos c]
    by_cases c1 : oc σ i = 1
    · obtain ⟨a1, a2, a3, a4⟩ : oc σ i = 1 ∧ (0 ≤ σ fQ_kind (σ fW_rule 0 i) 0 ∧ σ fQ_kind (σ fW_rule 0 i) 0 < σ fW_kinds 0 0) ∧ nar σ i = 1000 + 20 * ((CH (σ fW_parents 0) (σ fQ_kind (σ fW_rule 0 i) 0)).length : Int) + σ fQ_adjectives (σ fW_rule 0 i) 0 ∧ ((CH (σ fW_parents 0) (σ fQ_kind (σ fW_rule 0 i) 0)).length : Int) ≤ 16 := by
        rcases ni with n | n | n
        · omega
        · exact n
        · omega
      obtain ⟨b1, b2, b3, b4⟩ : oc σ j = 1 ∧ (0 ≤ σ fQ_kind (σ fW_rule 0 j) 0 ∧ σ fQ_kind (σ fW_rule 0 j) 0 < σ fW_kinds 0 0) ∧ nar σ j = 1000 + 20 * ((CH (σ fW_parents 0) (σ fQ_kind (σ fW_rule 0 j) 0)).length : Int) + σ fQ_adjectives (σ fW_rule 0 j) 0 ∧ ((CH (σ fW_parents 0) (σ fQ_kind (σ fW_rule 0 j) 0)).length : Int) ≤ 16 := by
        rcases nj with n | n | n
        · omega
        · exact n
        · omega
      have di : c_m_depthOf (e + 1) τ (τ fM_ruleKind 0 i) = some (((CH (σ fW_parents 0) (σ fQ_kind (σ fW_rule 0 i) 0)).length : Int), τ) := by rw [mi3]; exact s_m_depthOf fo hP (by omega) (by omega) a2.2
      have dj : c_m_depthOf (e + 1) τ (τ fM_ruleKind 0 j) = some (((CH (σ fW_parents 0) (σ fQ_kind (σ fW_rule 0 j) 0)).length : Int), τ) := by rw [mj3]; exact s_m_depthOf fo hP (by omega) (by omega) b2.2
      obtain ⟨x, ex⟩ : ∃ x : Int, x = ((CH (σ fW_parents 0) (σ fQ_kind (σ fW_rule 0 i) 0)).length : Int) := ⟨_, rfl⟩
      obtain ⟨y, ey⟩ : ∃ y : Int, y = ((CH (σ fW_parents 0) (σ fQ_kind (σ fW_rule 0 j) 0)).length : Int) := ⟨_, rfl⟩
      rw [← ex] at di a3 a4
      rw [← ey] at dj b3 b4
      have x0 : 0 ≤ x := by omega
      have y0 : 0 ≤ y := by omega
      rw [if_pos c1]
      simp only [ci, cj, di, dj, Option.bind_some]
      show (if x = y then m_isAhead_93 (e + 1) τ i j else if y < x then some (1, τ) else some (0, τ)) = _
      unfold ahd
      by_cases q : x = y
      · rw [if_pos q, e_m_isAhead_93, oi, Option.bind_some]
        show (if oc σ i = 1 then ga_ck i 24 (ga_ck j 24 (if τ fM_ruleAdjectives 0 i = τ fM_ruleAdjectives 0 j then m_isAhead_138 (e + 1) τ i j else ga_ck i 24 (ga_ck j 24 (if τ fM_ruleAdjectives 0 j < τ fM_ruleAdjectives 0 i then some (1, τ) else some (0, τ))))) else m_isAhead_138 (e + 1) τ i j) = _
        rw [if_pos c1, ck_ok _ (by omega), ck_ok _ (by omega), ck_ok _ (by omega), ck_ok _ (by omega), mi4, mj4, tl]
        by_cases u : σ fQ_adjectives (σ fW_rule 0 i) 0 = σ fQ_adjectives (σ fW_rule 0 j) 0
        · rw [if_pos u]
          congr 3
          exact decide_eq_decide.mpr (by omega)
        · rw [if_neg u]
          by_cases v : σ fQ_adjectives (σ fW_rule 0 j) 0 < σ fQ_adjectives (σ fW_rule 0 i) 0
          · rw [if_pos v, decide_eq_true (by omega)]; rfl
          · rw [if_neg v, decide_eq_false (by omega)]; rfl
      · rw [if_neg q]
        by_cases v : y < x
        · rw [if_pos v, decide_eq_true (by omega)]; rfl
        · rw [if_neg v, decide_eq_false (by omega)]; rfl
    · rw [if_neg c1, e_m_isAhead_93, oi, Option.bind_some]
      show (if oc σ i = 1 then _ else m_isAhead_138 (e + 1) τ i j) = _
      rw [if_neg c1, tl]
      unfold ahd
      have en : nar σ i = nar σ j := by omega
      congr 3
      exact decide_eq_decide.mpr (by omega)
  · rw [if_neg c]
    unfold ahd
    by_cases v : oc σ i < oc σ j
    · rw [if_pos v, decide_eq_true (by omega)]; rfl
    · rw [if_neg v, decide_eq_false (by omega)]; rfl
theorem m_orderOf (R : RU0 σ) (M : RM σ τ) {i : Int} (h0 : 0 ≤ i) (h1 : i < σ fW_rules 0 0) {d : Nat} (hd : 3 ≤ d) : c_m_orderOf d τ i = some (plc σ i, τ) := by
  obtain ⟨d, rfl⟩ : ∃ e, d = e + 1 := ⟨d - 1, by omega⟩
  have r24 := R.1.2
  have mi := (M.2.2 i h0 h1).1
  have lp : ∀ j, 0 ≤ j → ∀ a, 0 ≤ a → a ≤ j → m_orderOf_4 d τ i a j = some (a + cnP (plP σ i) (rg j (σ fW_rules 0 0)), τ) := by
    refine rg_ind (n := σ fW_rules 0 0) ?_ ?_
    · intro j hj j0 a a0 aj
      rw [e_m_orderOf_4, M.1, if_neg (by omega), rg_n hj, cnP_nil, Int.add_zero]
    · intro j hj ih j0 a a0 aj
      have mj := (M.2.2 j j0 hj).1
      rw [e_m_orderOf_4, M.1, if_pos hj, ck_ok _ (by omega), ck_ok _ (by omega), mi, mj, rg_s hj, cnP_cons]
      have go : ∀ x, 0 ≤ x → x ≤ 1 → m_orderOf_47 d τ i j x a = some (a + (x + cnP (plP σ i) (rg (j + 1) (σ fW_rules 0 0))), τ) := by
        intro x x0 x1
        rw [e_m_orderOf_47, w32_ok (x := a + x) (by omega), w32_ok (x := j + 1) (by omega), ih (by omega) (a + x) (by omega) (by omega), Int.add_assoc]
      by_cases e : j = i
      · rw [if_pos e, e_m_orderOf_46, go 0 (by decide) (by decide), if_neg (by unfold plP; rw [decide_eq_false (fun z => z.2 e), Bool.false_and]; decide)]
      · rw [if_neg e]
        by_cases c : rS σ j = rS σ i
        · rw [if_pos c, m_isAhead R M j0 hj h0 h1 (by omega), Option.bind_some]
          have pe : plP σ i j = ahd σ j i := by unfold plP; rw [decide_eq_true ⟨c, e⟩, Bool.true_and]
          rw [pe]
          cases hA : ahd σ j i with
          | true => rw [if_neg b2i_n, if_pos rfl]; exact go 1 (by decide) (by decide)
          | false => rw [if_pos b2i_f, if_neg (by decide), e_m_orderOf_46]; exact go 0 (by decide) (by decide)
        · rw [if_neg c, e_m_orderOf_46, go 0 (by decide) (by decide), if_neg (by unfold plP; rw [decide_eq_false (fun z => c z.1), Bool.false_and]; decide)]
  rw [e_m_orderOf, lp 0 (Int.le_refl _) 0 (Int.le_refl _) (Int.le_refl _), Int.zero_add]
  rfl
theorem m_ruleAt0 (R : RU0 σ) (M : RM σ τ) (s k : Int) {d : Nat} (hd : 4 ≤ d) : ∃ x, c_m_ruleAt d τ s k = some (x, τ) ∧ ((0 ≤ x ∧ x < σ fW_rules 0 0 ∧ rS σ x = s ∧ plc σ x = k) ∨ (x = -1 ∧ ∀ r, 0 ≤ r → r < σ fW_rules 0 0 → rS σ r = s → plc σ r ≠ k)) := by
  obtain ⟨d, rfl⟩ : ∃ e, d = e + 1 := ⟨d - 1, by omega⟩
  have r24 := R.1.2
  have lp : ∀ j, 0 ≤ j → (∀ r, 0 ≤ r → r < j → rS σ r = s → plc σ r ≠ k) → ∃ x, m_ruleAt_2 d τ s k j = some (x, τ) ∧ ((0 ≤ x ∧ x < σ fW_rules 0 0 ∧ rS σ x = s ∧ plc σ x = k) ∨ (x = -1 ∧ ∀ r, 0 ≤ r → r < σ fW_rules 0 0 → rS σ r = s → plc σ r ≠ k)) := by
    refine rg_ind (n := σ fW_rules 0 0) ?_ ?_
    · intro j hj j0 h
      exact ⟨-1, by rw [e_m_ruleAt_2, M.1, if_neg (by omega)], Or.inr ⟨rfl, fun r x y => h r x (by omega)⟩⟩
    · intro j hj ih j0 h
      have mj := (M.2.2 j j0 hj).1
      by_cases c : rS σ j = s
      · by_cases e : plc σ j = k
        · refine ⟨j, ?_, Or.inl ⟨j0, hj, c, e⟩⟩
          rw [e_m_ruleAt_2, M.1, if_pos hj, ck_ok _ (by omega), mj, if_pos c, m_orderOf R M j0 hj (by omega), Option.bind_some]
          show (if plc σ j = k then some (j, τ) else _) = _
          rw [if_pos e]
        · obtain ⟨x, x1, x2⟩ := ih (by omega) (fun r r0 r1 rs => by
            by_cases q : r = j
            · rw [q]; exact e
            · exact h r r0 (by omega) rs)
          refine ⟨x, ?_, x2⟩
          rw [e_m_ruleAt_2, M.1, if_pos hj, ck_ok _ (by omega), mj, if_pos c, m_orderOf R M j0 hj (by omega), Option.bind_some]
          show (if plc σ j = k then some (j, τ) else m_ruleAt_31 d τ s k j) = _
          rw [if_neg e, e_m_ruleAt_31, w32_ok (by omega), x1]
      · obtain ⟨x, x1, x2⟩ := ih (by omega) (fun r r0 r1 rs => by
          by_cases q : r = j
          · rw [q] at rs; exact absurd rs c
          · exact h r r0 (by omega) rs)
        refine ⟨x, ?_, x2⟩
        rw [e_m_ruleAt_2, M.1, if_pos hj, ck_ok _ (by omega), mj, if_neg c, e_m_ruleAt_31, w32_ok (by omega), x1]
  obtain ⟨x, x1, x2⟩ := lp 0 (Int.le_refl _) (fun r x y => by omega)
  exact ⟨x, by rw [e_m_ruleAt]; exact x1, x2⟩
theorem rg_pw {n : Int} : ∀ i, (rg i n).Pairwise (· < ·) := by
  refine rg_ind (n := n) ?_ ?_
  · intro i h; rw [rg_n h]; exact List.Pairwise.nil
  · intro i h ih
    rw [rg_s h]
    refine List.Pairwise.cons (fun x hx => ?_) ih
    have := (rg_mem (i + 1)).mp hx
    omega
/-- each place is taken -/
theorem plc_sur {s k : Int} (k0 : 0 ≤ k) (k1 : k < cnS σ s (σ fW_rules 0 0)) : ∃ r, 0 ≤ r ∧ r < σ fW_rules 0 0 ∧ rS σ r = s ∧ plc σ r = k := by
  refine Classical.byContradiction fun hn => ?_
  have h : ∀ r, 0 ≤ r → r < σ fW_rules 0 0 → rS σ r = s → plc σ r ≠ k := fun r a b c e => hn ⟨r, a, b, c, e⟩
  obtain ⟨l, el⟩ : ∃ l, l = (rg 0 (σ fW_rules 0 0)).filter (fun j => decide (rS σ j = s)) := ⟨_, rfl⟩
  have cl : cnS σ s (σ fW_rules 0 0) = (l.length : Int) := by unfold cnS cnP; rw [el]
  have pw : l.Pairwise (· < ·) := by rw [el]; exact List.Pairwise.filter _ (rg_pw 0)
  have inj : ∀ i j (hi : i < l.length) (hj : j < l.length), l[i] = l[j] → i = j := by
    intro i j hi hj e
    rcases Nat.lt_trichotomy i j with c | c | c
    · have := List.pairwise_iff_getElem.mp pw i j hi hj c; omega
    · exact c
    · have := List.pairwise_iff_getElem.mp pw j i hj hi c; omega
  have mem : ∀ i (hi : i < l.length), 0 ≤ l[i] ∧ l[i] < σ fW_rules 0 0 ∧ rS σ l[i] = s := by
    intro i hi
    have m := List.getElem_mem hi
    have m2 : l[i] ∈ (rg 0 (σ fW_rules 0 0)).filter (fun j => decide (rS σ j = s)) := by rw [← el]; exact m
    rw [List.mem_filter] at m2
    have a := (rg_mem 0).mp m2.1
    exact ⟨a.1, a.2, of_decide_eq_true m2.2⟩
  have gd : ∀ i (hi : i < l.length), l.getD i 0 = l[i] := fun i hi => by simp [List.getD, hi]
  have rng : ∀ i, i < l.length → 0 ≤ plc σ (l.getD i 0) ∧ plc σ (l.getD i 0) < (l.length : Int) ∧ plc σ (l.getD i 0) ≠ k := by
    intro i hi
    rw [gd i hi]
    have m := mem i hi
    have p := plc_r (σ := σ) m.1 m.2.1
    rw [m.2.2, cl] at p
    exact ⟨p.1, p.2, h _ m.1 m.2.1 m.2.2⟩
  have := pigeon (l.length - 1) l.length (fun i => if plc σ (l.getD i 0) < k then (plc σ (l.getD i 0)).toNat else (plc σ (l.getD i 0) - 1).toNat) (fun i hi => by
    have := rng i hi
    show (if plc σ (l.getD i 0) < k then (plc σ (l.getD i 0)).toNat else (plc σ (l.getD i 0) - 1).toNat) < l.length - 1
    split <;> omega) (fun i j hi hj e => by
    have a := rng i hi
    have b := rng j hj
    have e' : (if plc σ (l.getD i 0) < k then (plc σ (l.getD i 0)).toNat else (plc σ (l.getD i 0) - 1).toNat) = (if plc σ (l.getD j 0) < k then (plc σ (l.getD j 0)).toNat else (plc σ (l.getD j 0) - 1).toNat) := e
    have q : plc σ (l.getD i 0) = plc σ (l.getD j 0) := by
      split at e' <;> split at e' <;> omega
    rw [gd i hi, gd j hj] at q
    have mi := mem i hi
    have mj := mem j hj
    exact inj i j hi hj (plc_inj mi.1 mi.2.1 mj.1 mj.2.1 (by rw [mi.2.2, mj.2.2]) q))
  omega
/-- the k-th rule of a sort -/
theorem m_ruleAt (R : RU0 σ) (M : RM σ τ) (O : ORD σ) {s k : Int} (hs : 0 ≤ s ∧ s < 4) (hk : 0 ≤ k) {d : Nat} (hd : 4 ≤ d) : c_m_ruleAt d τ s k = some (if k < σ fU_ordered 0 s then σ fU_order s k else -1, τ) ∧ (k < σ fU_ordered 0 s → 0 ≤ σ fU_order s k ∧ σ fU_order s k < σ fW_rules 0 0 ∧ rS σ (σ fU_order s k) = s) := by
  obtain ⟨x, x1, x2⟩ := m_ruleAt0 R M s k hd
  have oc := O.1 s hs.1 hs.2
  rcases x2 with ⟨a, b, c, e⟩ | ⟨a, b⟩
  · have p := plc_r (σ := σ) a b
    rw [c, e, ← oc] at p
    have o := O.2 x a b
    rw [c, e] at o
    rw [if_pos p.2, o]
    exact ⟨x1, fun _ => ⟨a, b, c⟩⟩
  · by_cases c : k < σ fU_ordered 0 s
    · rw [oc] at c
      obtain ⟨r, r1, r2, r3, r4⟩ := plc_sur hk c
      exact absurd r4 (b r r1 r2 r3)
    · rw [if_neg c, ← a]
      exact ⟨x1, fun z => absurd z c⟩
end

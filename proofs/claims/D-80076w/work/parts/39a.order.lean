/-! rules in their order -/
/-- how many of l have P -/
def cnP (P : Int → Bool) (l : List Int) : Int := ((l.filter P).length : Int)
theorem cnP_nil (P : Int → Bool) : cnP P [] = 0 := rfl
theorem cnP_cons (P : Int → Bool) (x : Int) (l : List Int) : cnP P (x :: l) = (if P x = true then 1 else 0) + cnP P l := by
  unfold cnP
  by_cases c : P x = true
  · rw [List.filter_cons_of_pos c, if_pos c, List.length_cons]; push_cast; omega
  · rw [List.filter_cons_of_neg c, if_neg c]; omega
theorem cnP_0 (P : Int → Bool) (l : List Int) : 0 ≤ cnP P l := by unfold cnP; omega
theorem cnP_le {P Q : Int → Bool} : ∀ l : List Int, (∀ x, x ∈ l → P x = true → Q x = true) → cnP P l ≤ cnP Q l := by
  intro l
  induction l with
  | nil => intro _; exact Int.le_refl _
  | cons x l ih =>
    intro h
    have i := ih (fun y hy => h y (List.mem_cons_of_mem _ hy))
    rw [cnP_cons, cnP_cons]
    by_cases c : P x = true
    · rw [if_pos c, if_pos (h x (List.mem_cons_self ..) c)]; omega
    · rw [if_neg c]
      split <;> omega
theorem cnP_lt {P Q : Int → Bool} : ∀ l : List Int, (∀ x, x ∈ l → P x = true → Q x = true) → ∀ z, z ∈ l → Q z = true → P z = false → cnP P l < cnP Q l := by
  intro l
  induction l with
  | nil => intro _ z hz; cases hz
  | cons x l ih =>
    intro h z hz q p
    have hl := fun y hy => h y (List.mem_cons_of_mem _ hy)
    have i := cnP_le l hl
    rw [cnP_cons, cnP_cons]
    rcases List.mem_cons.mp hz with e | e
    · rw [← e, if_pos q, if_neg (by rw [p]; decide)]; omega
    · have j := ih hl z e q p
      by_cases c : P x = true
      · rw [if_pos c, if_pos (h x (List.mem_cons_self ..) c)]; omega
      · rw [if_neg c]
        split <;> omega
theorem cnP_all (P : Int → Bool) : ∀ l : List Int, cnP P l ≤ (l.length : Int) := by
  intro l
  induction l with
  | nil => exact Int.le_refl _
  | cons x l ih =>
    rw [cnP_cons, List.length_cons]
    push_cast
    split <;> omega
theorem cnP_eq {P Q : Int → Bool} (l : List Int) (h : ∀ x, x ∈ l → P x = Q x) : cnP P l = cnP Q l := by
  have a := cnP_le (P := P) (Q := Q) l (fun x hx e => by rw [← h x hx]; exact e)
  have b := cnP_le (P := Q) (Q := P) l (fun x hx e => by rw [h x hx]; exact e)
  omega
section
variable {σ τ : ga_S}
/-- the sort of rule i, how narrow its noun is -/
def rS (σ : ga_S) (i : Int) : Int := σ fQ_sort (σ fW_rule 0 i) 0
def nar (σ : ga_S) (i : Int) : Int := if σ fQ_object (σ fW_rule 0 i) 0 = -1 then (if σ fQ_kind (σ fW_rule 0 i) 0 = -1 then 0 else 1000 + 20 * ((CH (σ fW_parents 0) (σ fQ_kind (σ fW_rule 0 i) 0)).length : Int) + σ fQ_adjectives (σ fW_rule 0 i) 0) else 100000
def rT (σ : ga_S) (i : Int) : Int := σ fQ_tests (σ fW_rule 0 i) 0
def ahd (σ : ga_S) (i j : Int) : Bool := decide (nar σ j < nar σ i ∨ (nar σ i = nar σ j ∧ (rT σ j < rT σ i ∨ (rT σ i = rT σ j ∧ i < j))))
def plP (σ : ga_S) (i j : Int) : Bool := decide (rS σ j = rS σ i ∧ j ≠ i) && ahd σ j i
def plc (σ : ga_S) (i : Int) : Int := cnP (plP σ i) (rg 0 (σ fW_rules 0 0))
/-- rules that are well formed -/
def RU0 (σ : ga_S) : Prop := (0 ≤ σ fW_rules 0 0 ∧ σ fW_rules 0 0 ≤ 24) ∧ FO (σ fW_parents 0) (σ fW_kinds 0 0) ∧ ∀ i, 0 ≤ i → i < σ fW_rules 0 0 → 0 ≤ σ fW_rule 0 i ∧ (0 ≤ rS σ i ∧ rS σ i < 4) ∧ (σ fQ_kind (σ fW_rule 0 i) 0 = -1 ∨ (0 ≤ σ fQ_kind (σ fW_rule 0 i) 0 ∧ σ fQ_kind (σ fW_rule 0 i) 0 < σ fW_kinds 0 0)) ∧ (0 ≤ σ fQ_adjectives (σ fW_rule 0 i) 0 ∧ σ fQ_adjectives (σ fW_rule 0 i) 0 ≤ 6)
theorem k_narrow (R : RU0 σ) {i : Int} (h0 : 0 ≤ i) (h1 : i < σ fW_rules 0 0) {d : Nat} (hd : 2 ≤ d) : c_u_narrow d σ (σ fW_rule 0 i) = some (nar σ i, σ) := by
  obtain ⟨d, rfl⟩ : ∃ e, d = e + 1 := ⟨d - 1, by omega⟩
  obtain ⟨r1, r2, r3, r4⟩ := R.2.2 i h0 h1
  have fo := R.2.1
  have f16 := fo.1
  unfold nar
  rw [e_u_narrow, nn_ok _ r1]
  by_cases c : σ fQ_object (σ fW_rule 0 i) 0 = -1
  · rw [if_pos c, if_pos c, nn_ok _ r1]
    by_cases e : σ fQ_kind (σ fW_rule 0 i) 0 = -1
    · rw [if_pos e, if_pos e]
    · have k := r3.resolve_left e
      have l := CH_len fo _ (by omega) k.2
      rw [if_neg e, if_neg e, nn_ok _ r1, s_w_depth fo (by omega) (by omega) k.2]
      simp only [Option.bind_some]
      rw [nn_ok _ r1, w32_ok (x := 20 * ((CH (σ fW_parents 0) (σ fQ_kind (σ fW_rule 0 i) 0)).length : Int)) (by omega), w32_ok (x := 1000 + 20 * ((CH (σ fW_parents 0) (σ fQ_kind (σ fW_rule 0 i) 0)).length : Int)) (by omega), w32_ok (by omega)]
  · rw [if_neg c, if_neg c]
theorem k_isAhead (R : RU0 σ) {i j : Int} (h0 : 0 ≤ i) (h1 : i < σ fW_rules 0 0) (g0 : 0 ≤ j) (g1 : j < σ fW_rules 0 0) {d : Nat} (hd : 3 ≤ d) : c_u_isAhead d σ i j = some (b2i (ahd σ i j), σ) := by
  obtain ⟨d, rfl⟩ : ∃ e, d = e + 1 := ⟨d - 1, by omega⟩
  have r24 := R.1.2
  have ri := (R.2.2 i h0 h1).1
  have rj := (R.2.2 j g0 g1).1
  rw [e_u_isAhead, ck_ok _ (by omega), ck_ok _ (by omega), k_narrow R h0 h1 (by omega), Option.bind_some, k_narrow R g0 g1 (by omega), Option.bind_some]
  show (if nar σ i = nar σ j then ga_nn (σ fW_rule 0 i) (ga_nn (σ fW_rule 0 j) (if rT σ i = rT σ j then if i < j then some (1, σ) else some (0, σ) else ga_nn (σ fW_rule 0 i) (ga_nn (σ fW_rule 0 j) (if rT σ j < rT σ i then some (1, σ) else some (0, σ))))) else if nar σ j < nar σ i then some (1, σ) else some (0, σ)) = _
  rw [nn_ok _ ri, nn_ok _ rj, nn_ok _ ri, nn_ok _ rj]
  unfold ahd
  by_cases c : nar σ i = nar σ j
  · rw [if_pos c]
    by_cases e : rT σ i = rT σ j
    · rw [if_pos e]
      by_cases q : i < j
      · rw [if_pos q, decide_eq_true (by omega)]; rfl
      · rw [if_neg q, decide_eq_false (by omega)]; rfl
    · rw [if_neg e]
      by_cases q : rT σ j < rT σ i
      · rw [if_pos q, decide_eq_true (by omega)]; rfl
      · rw [if_neg q, decide_eq_false (by omega)]; rfl
  · rw [if_neg c]
    by_cases q : nar σ j < nar σ i
    · rw [if_pos q, decide_eq_true (by omega)]; rfl
    · rw [if_neg q, decide_eq_false (by omega)]; rfl
theorem k_placeOf (R : RU0 σ) {i : Int} (h0 : 0 ≤ i) (h1 : i < σ fW_rules 0 0) {d : Nat} (hd : 4 ≤ d) : c_u_placeOf d σ i = some (plc σ i, σ) := by
  obtain ⟨d, rfl⟩ : ∃ e, d = e + 1 := ⟨d - 1, by omega⟩
  have r24 := R.1.2
  have ri := (R.2.2 i h0 h1).1
  have lp : ∀ j, 0 ≤ j → ∀ a, 0 ≤ a → a ≤ j → u_placeOf_4 d σ i a j = some (a + cnP (plP σ i) (rg j (σ fW_rules 0 0)), σ) := by
    refine rg_ind (n := σ fW_rules 0 0) ?_ ?_
    · intro j hj j0 a a0 aj
      rw [e_u_placeOf_4, if_neg (by omega), rg_n hj, cnP_nil, Int.add_zero]
    · intro j hj ih j0 a a0 aj
      have rj := (R.2.2 j j0 hj).1
      rw [e_u_placeOf_4, if_pos hj, ck_ok _ (by omega), nn_ok _ rj, ck_ok _ (by omega), nn_ok _ ri, rg_s hj, cnP_cons]
      have go : ∀ x, 0 ≤ x → x ≤ 1 → u_placeOf_62 d σ i j x a = some (a + (x + cnP (plP σ i) (rg (j + 1) (σ fW_rules 0 0))), σ) := by
        intro x x0 x1
        rw [e_u_placeOf_62, w32_ok (x := a + x) (by omega), w32_ok (x := j + 1) (by omega), ih (by omega) (a + x) (by omega) (by omega), Int.add_assoc]
      show (if rS σ j = rS σ i then if j = i then u_placeOf_61 d σ i j a else (c_u_isAhead d σ j i).bind fun q1 => if q1.1 = 0 then u_placeOf_61 d q1.2 i j a else u_placeOf_62 d q1.2 i j 1 a else u_placeOf_61 d σ i j a) = _
      by_cases c : rS σ j = rS σ i
      · rw [if_pos c]
        by_cases e : j = i
        · rw [if_pos e, e_u_placeOf_61, go 0 (by decide) (by decide), if_neg (by unfold plP; rw [decide_eq_false (fun z => z.2 e), Bool.false_and]; decide)]
        · rw [if_neg e, k_isAhead R j0 hj h0 h1 (by omega), Option.bind_some]
          have pe : plP σ i j = ahd σ j i := by unfold plP; rw [decide_eq_true ⟨c, e⟩, Bool.true_and]
          rw [pe]
          cases hA : ahd σ j i with
          | true => rw [if_neg b2i_n, if_pos rfl]; exact go 1 (by decide) (by decide)
          | false => rw [if_pos b2i_f, if_neg (by decide), e_u_placeOf_61]; exact go 0 (by decide) (by decide)
      · rw [if_neg c, e_u_placeOf_61, go 0 (by decide) (by decide), if_neg (by unfold plP; rw [decide_eq_false (fun z => c z.1), Bool.false_and]; decide)]
  rw [e_u_placeOf, lp 0 (Int.le_refl _) 0 (Int.le_refl _) (Int.le_refl _), Int.zero_add]
  rfl
/-- rules of one sort have places of their own -/
theorem plc_lt {i j : Int} (g0 : 0 ≤ i) (g1 : i < σ fW_rules 0 0) (hs : rS σ i = rS σ j) (hij : i ≠ j) (h : ahd σ i j = true) : plc σ i < plc σ j := by
  unfold plc
  have hij' := of_decide_eq_true h
  refine cnP_lt _ (fun x _ hx => ?_) i ((rg_mem 0).mpr ⟨g0, g1⟩) ?_ ?_
  · unfold plP at hx ⊢
    rw [Bool.and_eq_true] at hx ⊢
    have a := of_decide_eq_true hx.1
    have b := of_decide_eq_true hx.2
    have c : nar σ j < nar σ x ∨ (nar σ x = nar σ j ∧ (rT σ j < rT σ x ∨ (rT σ x = rT σ j ∧ x < j))) := by omega
    refine ⟨decide_eq_true ⟨a.1.trans hs, ?_⟩, decide_eq_true c⟩
    intro e
    rw [e] at c
    omega
  · unfold plP
    rw [decide_eq_true ⟨hs, hij⟩, h]; rfl
  · unfold plP
    rw [decide_eq_false (fun z => z.2 rfl)]; rfl
theorem ahd_tot {i j : Int} (h : i ≠ j) : ahd σ i j = true ∨ ahd σ j i = true := by
  unfold ahd
  by_cases c : nar σ j < nar σ i ∨ (nar σ i = nar σ j ∧ (rT σ j < rT σ i ∨ (rT σ i = rT σ j ∧ i < j)))
  · exact Or.inl (decide_eq_true c)
  · exact Or.inr (decide_eq_true (by omega))
theorem plc_inj {i j : Int} (g0 : 0 ≤ i) (g1 : i < σ fW_rules 0 0) (h0 : 0 ≤ j) (h1 : j < σ fW_rules 0 0) (hs : rS σ i = rS σ j) (e : plc σ i = plc σ j) : i = j := by
  refine Classical.byContradiction fun n => ?_
  rcases ahd_tot (σ := σ) n with a | a
  · have := plc_lt g0 g1 hs n a; omega
  · have := plc_lt h0 h1 hs.symm (fun z => n z.symm) a; omega
def cnS (σ : ga_S) (s n : Int) : Int := cnP (fun j => decide (rS σ j = s)) (rg 0 n)
theorem plc_r {i : Int} (g0 : 0 ≤ i) (g1 : i < σ fW_rules 0 0) : 0 ≤ plc σ i ∧ plc σ i < cnS σ (rS σ i) (σ fW_rules 0 0) := by
  refine ⟨cnP_0 _ _, cnP_lt _ (fun x _ hx => ?_) i ((rg_mem 0).mpr ⟨g0, g1⟩) (decide_eq_true rfl) ?_⟩
  · unfold plP at hx
    rw [Bool.and_eq_true] at hx
    exact decide_eq_true (of_decide_eq_true hx.1).1
  · unfold plP
    rw [decide_eq_false (fun z => z.2 rfl)]; rfl
theorem cnS_le (s n : Int) (h : 0 ≤ n) : cnS σ s n ≤ n := by
  have := cnP_all (fun j => decide (rS σ j = s)) (rg 0 n)
  have l := rg_len (n := n) 0
  rw [if_pos h] at l
  unfold cnS
  omega
theorem cnS_s (s n : Int) (h : 0 ≤ n) : cnS σ s (n + 1) = cnS σ s n + (if rS σ n = s then 1 else 0) := by
  unfold cnS cnP
  rw [rg_snoc 0 h, List.filter_append, List.length_append]
  by_cases c : rS σ n = s
  · simp [List.filter_cons, c]
  · simp [List.filter_cons, c]
/-- the order of the rules, as the component keeps it -/
def ORD (σ : ga_S) : Prop := (∀ s, 0 ≤ s → s < 4 → σ fU_ordered 0 s = cnS σ s (σ fW_rules 0 0)) ∧ ∀ i, 0 ≤ i → i < σ fW_rules 0 0 → σ fU_order (rS σ i) (plc σ i) = i
def orL : List Nat := [fU_order, fU_ordered]
theorem or_same {σ' : ga_S} (f : fr orL σ σ') : RU0 σ' = RU0 σ ∧ (∀ i, rS σ' i = rS σ i) ∧ (∀ i, plc σ' i = plc σ i) ∧ σ' fW_rules = σ fW_rules ∧ ∀ s n, cnS σ' s n = cnS σ s n := by
  have e1 : σ' fW_rules = σ fW_rules := f _ (by decide)
  have e2 : σ' fW_rule = σ fW_rule := f _ (by decide)
  have e3 : σ' fQ_sort = σ fQ_sort := f _ (by decide)
  have e4 : σ' fQ_object = σ fQ_object := f _ (by decide)
  have e5 : σ' fQ_kind = σ fQ_kind := f _ (by decide)
  have e6 : σ' fQ_adjectives = σ fQ_adjectives := f _ (by decide)
  have e7 : σ' fQ_tests = σ fQ_tests := f _ (by decide)
  have e8 : σ' fW_parents = σ fW_parents := f _ (by decide)
  have e9 : σ' fW_kinds = σ fW_kinds := f _ (by decide)
  have es : ∀ i, rS σ' i = rS σ i := fun i => by unfold rS; rw [e2, e3]
  have en : ∀ i, nar σ' i = nar σ i := fun i => by unfold nar; rw [e2, e4, e5, e6, e8]
  have et : ∀ i, rT σ' i = rT σ i := fun i => by unfold rT; rw [e2, e7]
  have ea : ∀ i j, ahd σ' i j = ahd σ i j := fun i j => by unfold ahd; rw [en, en, et, et]
  refine ⟨?_, es, fun i => ?_, e1, fun s n => ?_⟩
  · unfold RU0 rS; rw [e1, e2, e3, e5, e6, e8, e9]
  · unfold plc
    rw [e1]
    exact cnP_eq _ (fun x _ => by unfold plP; rw [es, es, ea])
  · unfold cnS
    exact cnP_eq _ (fun x _ => by rw [es])
theorem k_arrange (R : RU0 σ) {d : Nat} (hd : 5 ≤ d) : ∃ σ', c_u_arrange d σ = some (0, σ') ∧ fr orL σ σ' ∧ ORD σ' := by
  obtain ⟨d, rfl⟩ : ∃ e, d = e + 1 := ⟨d - 1, by omega⟩
  have r0 := R.1.1
  have r24 := R.1.2
  -- the counts are wiped
  obtain ⟨σ0, e0⟩ : ∃ x, x = ga_up (ga_up (ga_up (ga_up σ fU_ordered 0 0 0) fU_ordered 0 1 0) fU_ordered 0 2 0) fU_ordered 0 3 0 := ⟨_, rfl⟩
  have w : u_arrange_2 d σ 0 = u_arrange_22 d σ0 0 := by
    rw [e_u_arrange_2, if_pos (by decide), ck_ok _ (by decide), show w32 ((0 : Int) + 1) = 1 by decide, e_u_arrange_2, if_pos (by decide), ck_ok _ (by decide), show w32 ((1 : Int) + 1) = 2 by decide, e_u_arrange_2, if_pos (by decide), ck_ok _ (by decide), show w32 ((2 : Int) + 1) = 3 by decide, e_u_arrange_2, if_pos (by decide), ck_ok _ (by decide), show w32 ((3 : Int) + 1) = 4 by decide, e_u_arrange_2, if_neg (by decide), ← e0]
  have f0 : fr orL σ σ0 := by rw [e0]; exact fr_trans (fr_trans (fr_trans (fr_u (by decide)) (fr_u (by decide))) (fr_u (by decide))) (fr_u (by decide))
  have z0 : ∀ s, 0 ≤ s → s < 4 → σ0 fU_ordered 0 s = 0 := by
    intro s s0 s4
    rw [e0, up_at, up_at, up_at, up_at]
    have : s = 0 ∨ s = 1 ∨ s = 2 ∨ s = 3 := by omega
    rcases this with e | e | e | e <;> subst e <;> rfl
  have lp : ∀ i, 0 ≤ i → i ≤ σ fW_rules 0 0 → ∀ ρ, fr orL σ ρ → (∀ s, 0 ≤ s → s < 4 → ρ fU_ordered 0 s = cnS σ s i) → (∀ j, 0 ≤ j → j < i → ρ fU_order (rS σ j) (plc σ j) = j) → ∃ σ', u_arrange_22 d ρ i = some (0, σ') ∧ fr orL σ σ' ∧ (∀ s, 0 ≤ s → s < 4 → σ' fU_ordered 0 s = cnS σ s (σ fW_rules 0 0)) ∧ ∀ j, 0 ≤ j → j < σ fW_rules 0 0 → σ' fU_order (rS σ j) (plc σ j) = j := by
    refine rg_ind (n := σ fW_rules 0 0) ?_ ?_
    · intro i hi i0 i1 ρ f a b
      have e : i = σ fW_rules 0 0 := by omega
      obtain ⟨o1, o2, o3, o4, o5⟩ := or_same f
      subst e
      exact ⟨ρ, by rw [e_u_arrange_22, o4, if_neg (by omega)], f, a, b⟩
    · intro i hi ih i0 i1 ρ f a b
      obtain ⟨o1, o2, o3, o4, o5⟩ := or_same f
      have Rρ : RU0 ρ := by rw [o1]; exact R
      have hi' : i < ρ fW_rules 0 0 := by rw [o4]; exact hi
      obtain ⟨q1, q2, q3⟩ := Rρ.2.2 i i0 hi'
      have si : rS ρ i = rS σ i := o2 i
      have pr := plc_r (σ := σ) i0 hi
      have cl := cnS_le (σ := σ) (rS σ i) (σ fW_rules 0 0) r0
      have cli := cnS_le (σ := σ) (rS σ i) i i0
      have cl0 : 0 ≤ cnS σ (rS σ i) i := cnP_0 _ _
      rw [si] at q2
      obtain ⟨ρ1, e1⟩ : ∃ x, x = ga_up (ga_up ρ fU_order (rS σ i) (plc σ i) i) fU_ordered 0 (rS σ i) (cnS σ (rS σ i) i + 1) := ⟨_, rfl⟩
      have f1 : fr orL ρ ρ1 := by rw [e1]; exact fr_trans (fr_u (by decide)) (fr_u (by decide))
      obtain ⟨σ', s1, s2⟩ := ih (by omega) (by omega) ρ1 (fr_trans f f1) (fun s s0 s4 => by
        rw [e1, up_at, cnS_s s i i0]
        by_cases c : s = rS σ i
        · rw [if_pos c, if_pos c.symm, c]
        · rw [if_neg c, if_neg (fun z => c z.symm), up_F (by decide), a s s0 s4]; omega) (fun j j0 j1 => by
        rw [e1, up_F (by decide), up_nat]
        by_cases c : rS σ j = rS σ i ∧ plc σ j = plc σ i
        · rw [if_pos c]
          exact (plc_inj (σ := σ) j0 (by omega) i0 hi c.1 c.2).symm
        · rw [if_neg c]
          have : j ≠ i := fun z => c (by rw [z]; exact ⟨rfl, rfl⟩)
          exact b j j0 (by omega))
      refine ⟨σ', ?_, s2⟩
      have eS : ρ fQ_sort (ρ fW_rule 0 i) 0 = rS σ i := si
      rw [e_u_arrange_22, if_pos hi', ck_ok _ (by omega), nn_ok _ q1, eS, ck_ok _ q2, k_placeOf Rρ i0 hi' (by omega), Option.bind_some]
      show ga_nn (rS σ i) (ga_ck (plc ρ i) 24 (ga_ck i 24 (ga_nn (ρ fW_rule 0 i) (ga_ck (ρ fQ_sort (ρ fW_rule 0 i) 0) 4 (ga_ck (ρ fQ_sort (ρ fW_rule 0 i) 0) 4 (u_arrange_22 d (ga_up (ga_up ρ fU_order (rS σ i) (plc ρ i) i) fU_ordered 0 (ρ fQ_sort (ρ fW_rule 0 i) 0) (w32 ((ρ fU_ordered 0 (ρ fQ_sort (ρ fW_rule 0 i) 0)) + 1))) (w32 (i + 1)))))))) = _
      rw [eS, o3, a _ q2.1 q2.2, nn_ok _ q2.1, ck_ok _ (by omega), ck_ok _ (by omega), nn_ok _ q1, ck_ok _ q2, ck_ok _ q2, w32_ok (x := cnS σ (rS σ i) i + 1) (by omega), w32_ok (x := i + 1) (by omega), ← e1, s1]
  obtain ⟨σ', s1, s2, s3, s4⟩ := lp 0 (Int.le_refl _) r0 σ0 f0 (fun s s0 s4 => by rw [z0 s s0 s4]; rfl) (fun j j0 j1 => by omega)
  obtain ⟨o1, o2, o3, o4, o5⟩ := or_same s2
  refine ⟨σ', by rw [e_u_arrange, w, s1], s2, fun s s0 s4' => ?_, fun i i0 i1 => ?_⟩
  · rw [o4, o5]; exact s3 s s0 s4'
  · rw [o4] at i1
    rw [o2, o3]; exact s4 i i0 i1
end

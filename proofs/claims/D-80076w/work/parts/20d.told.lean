/-! numbers of the model -/
def lenV (σ : ga_S) (o p : Int) : Int := if hasRow σ o p = -1 then 0 else σ fW_lengths (hasRow σ o p) p
/-- what the model takes for a number: of a text that isn't told 0 -/
def numM (σ : ga_S) (o p : Int) : Int := if hasRow σ o p = -1 then (if 1 < σ fW_propertyTypes 0 p then firstV σ (σ fW_propertyTypes 0 p) 0 else 0) else σ fW_numbers (hasRow σ o p) p
theorem numM_V {σ : ga_S} {o p : Int} (h0 : 0 ≤ σ fW_propertyTypes 0 p) (h : σ fW_propertyTypes 0 p ≠ 1) : numM σ o p = numV σ o p := by
  unfold numM numV
  by_cases c : hasRow σ o p = -1
  · rw [if_pos c, if_pos c]
    by_cases c2 : σ fW_propertyTypes 0 p = 0
    · rw [if_neg (by omega), if_pos c2]
    · rw [if_pos (by omega), if_neg c2]
  · rw [if_neg c, if_neg c]
theorem s_m_numberOf_110 {σ τ : ga_S} (d : Nat) {p : Int} (hp : 0 ≤ p ∧ p < 12) (hv : σ fW_values 0 0 ≤ 64) (hq : τ fM_values 0 0 = σ fW_values 0 0) (hvt : ∀ v, 0 ≤ v → v < σ fW_values 0 0 → τ fM_valueType 0 v = σ fW_valueTypes 0 v) (ht : τ fM_propertyType 0 p = σ fW_propertyTypes 0 p) : ∀ i, 0 ≤ i → m_numberOf_110 d τ p i = some (if 1 < σ fW_propertyTypes 0 p then firstV σ (σ fW_propertyTypes 0 p) i else 0, τ) := by
  refine rg_ind (n := σ fW_values 0 0) ?_ ?_
  · intro i h h0
    rw [e_m_numberOf_110, if_neg (by omega), e_m_numberOf_151, ck_ok _ hp, ht]
    by_cases c : 1 < σ fW_propertyTypes 0 p
    · rw [if_pos c, if_pos c]; unfold firstV; rw [rg_n h]; rfl
    · rw [if_neg c, if_neg c]
  · intro i h ih h0
    rw [e_m_numberOf_110, if_pos (by omega), ck_ok _ hp, ht]
    by_cases c : 1 < σ fW_propertyTypes 0 p
    · rw [if_pos c, if_pos c, ck_ok _ (by omega), ck_ok _ hp, hvt i h0 h, firstV_s h]
      by_cases c2 : σ fW_valueTypes 0 i = σ fW_propertyTypes 0 p
      · rw [if_pos c2, if_pos c2]
      · rw [if_neg c2, if_neg c2, w32_ok (by omega), ih (by omega), if_pos c]
    · rw [if_neg c, if_neg c, e_m_numberOf_151, ck_ok _ hp, ht, if_neg c]
/-- what is told of properties, on both sides -/
def rHas (σ τ : ga_S) (o p : Int) : Prop := τ fM_objectTold 0 (12 * o + p) = σ fW_has o p ∧ (¬ σ fW_has o p = 0 → τ fM_objectSays 0 (12 * o + p) = σ fW_numbers o p ∧ (σ fW_propertyTypes 0 p = 1 → τ fM_objectLong 0 (12 * o + p) = σ fW_lengths o p))
def rHasK (σ τ : ga_S) (k p : Int) : Prop := τ fM_kindTold 0 (12 * k + p) = σ fW_has (24 + k) p ∧ (¬ σ fW_has (24 + k) p = 0 → τ fM_kindSays 0 (12 * k + p) = σ fW_numbers (24 + k) p ∧ (σ fW_propertyTypes 0 p = 1 → τ fM_kindLong 0 (12 * k + p) = σ fW_lengths (24 + k) p))
theorem s_m_numberOf_53 {σ τ : ga_S} {n : Int} (hF : FO (σ fW_parents 0) n) (hP : ∀ k, 0 ≤ k → k < n → τ fM_above 0 k = σ fW_parents 0 k) (d : Nat) {p : Int} (hp : 0 ≤ p ∧ p < 12) (hv : σ fW_values 0 0 ≤ 64) (hq : τ fM_values 0 0 = σ fW_values 0 0) (hvt : ∀ v, 0 ≤ v → v < σ fW_values 0 0 → τ fM_valueType 0 v = σ fW_valueTypes 0 v) (ht : τ fM_propertyType 0 p = σ fW_propertyTypes 0 p) (hk : ∀ k, 0 ≤ k → k < n → rHasK σ τ k p) (z : Int) : ∀ k, -1 ≤ k → k < n → ∃ l, m_numberOf_53 d (ga_up τ fM_numberLong 0 0 z) p k = some ((match (CH (σ fW_parents 0) k).find? (fun k => decide (¬ σ fW_has (24 + k) p = 0)) with
  | some k => σ fW_numbers (24 + k) p
  | none => if 1 < σ fW_propertyTypes 0 p then firstV σ (σ fW_propertyTypes 0 p) 0 else 0), ga_up τ fM_numberLong 0 0 l) ∧ (σ fW_propertyTypes 0 p = 1 → l = (match (CH (σ fW_parents 0) k).find? (fun k => decide (¬ σ fW_has (24 + k) p = 0)) with
  | some k => σ fW_lengths (24 + k) p
  | none => z)) := by
  have u : ∀ F, F ≠ fM_numberLong → (ga_up τ fM_numberLong 0 0 z) F = τ F := fun F hF => up_F hF τ 0 0 z
  refine FO_ind hF ?_ ?_
  · rw [e_m_numberOf_53, if_pos (by omega), CH_neg _ (by omega)]
    refine ⟨z, ?_, fun _ => rfl⟩
    rw [s_m_numberOf_110 (σ := σ) d hp hv (by rw [u fM_values (by decide)]; exact hq) (by rw [u fM_valueType (by decide)]; exact hvt) (by rw [u fM_propertyType (by decide)]; exact ht) 0 (by omega)]
    rfl
  · intro k h0 h1 ih
    have h16 := hF.1
    have hk' := hk k h0 h1
    rw [e_m_numberOf_53, if_neg (by omega), w32_ok (x := 12 * k) (by omega), w32_ok (by omega), ck_ok _ (by omega), CH_s hF h0 h1, List.find?_cons, u fM_kindTold (by decide), hk'.1]
    by_cases c : σ fW_has (24 + k) p = 0
    · rw [if_pos c, ck_ok _ (by omega), u fM_above (by decide), hP k h0 h1]
      simp only [c, not_true_eq_false, decide_false]
      exact ih
    · rw [if_neg c, ck_ok _ (by omega), ck_ok _ (by omega), u fM_kindSays (by decide), u fM_kindLong (by decide), up_up, (hk'.2 c).1]
      simp only [c, not_false_eq_true, decide_true]
      exact ⟨_, rfl, fun t => (hk'.2 c).2 t⟩
theorem s_m_numberOf {σ τ : ga_S} {n : Int} (hF : FO (σ fW_parents 0) n) (hP : ∀ k, 0 ≤ k → k < n → τ fM_above 0 k = σ fW_parents 0 k) {d : Nat} (hd : 1 ≤ d) {o p : Int} (hp : 0 ≤ p ∧ p < 12) (ho : 0 ≤ o ∧ o < 24) (hv : σ fW_values 0 0 ≤ 64) (hq : τ fM_values 0 0 = σ fW_values 0 0) (hvt : ∀ v, 0 ≤ v → v < σ fW_values 0 0 → τ fM_valueType 0 v = σ fW_valueTypes 0 v) (ht : τ fM_propertyType 0 p = σ fW_propertyTypes 0 p) (hk : ∀ k, 0 ≤ k → k < n → rHasK σ τ k p) (hh : rHas σ τ o p) (hko : τ fM_kindOf 0 o = σ fW_kindOf 0 o) (h1 : -1 ≤ σ fW_kindOf 0 o) (h2 : σ fW_kindOf 0 o < n) : ∃ l, c_m_numberOf d τ o p = some (numM σ o p, ga_up τ fM_numberLong 0 0 l) ∧ (σ fW_propertyTypes 0 p = 1 → l = lenV σ o p) := by
  obtain ⟨d, rfl⟩ : ∃ e, d = e + 1 := ⟨d - 1, by omega⟩
  rw [e_m_numberOf, w32_ok (x := 12 * o) (by omega), w32_ok (by omega), ck_ok _ (by omega), hh.1]
  have h16 := hF.1
  by_cases c : σ fW_has o p = 0
  · rw [if_pos c, ck_ok _ ho, hko]
    obtain ⟨l, e, hl⟩ := s_m_numberOf_53 hF hP d hp hv hq hvt ht hk 0 _ h1 h2
    refine ⟨l, ?_, ?_⟩
    · rw [e]
      unfold numM hasRow
      rw [if_pos c]
      cases e2 : (CH (σ fW_parents 0) (σ fW_kindOf 0 o)).find? (fun k => decide (¬ σ fW_has (24 + k) p = 0)) with
      | none => simp only [↓reduceIte]
      | some k =>
        have hm := CH_mem hF _ h1 h2 k (List.mem_of_find?_eq_some e2)
        simp only []
        rw [if_neg (by omega)]
    · intro t
      rw [hl t]
      unfold lenV hasRow
      rw [if_pos c]
      cases e2 : (CH (σ fW_parents 0) (σ fW_kindOf 0 o)).find? (fun k => decide (¬ σ fW_has (24 + k) p = 0)) with
      | none => simp only [↓reduceIte]
      | some k =>
        have hm := CH_mem hF _ h1 h2 k (List.mem_of_find?_eq_some e2)
        simp only []
        rw [if_neg (by omega)]
  · rw [if_neg c, ck_ok _ (by omega), ck_ok _ (by omega), up_up, (hh.2 c).1]
    refine ⟨τ fM_objectLong 0 (12 * o + p), ?_, fun t => ?_⟩
    · unfold numM hasRow
      rw [if_neg c, if_neg (by omega)]
    · rw [(hh.2 c).2 t]
      unfold lenV hasRow
      rw [if_neg c, if_neg (by omega)]
/-! adjectives that are told -/
def toldRow (σ : ga_S) (o a c : Int) : Int := if σ fW_told o a = 0 ∧ σ fW_told o c = 0 then (match (CH (σ fW_parents 0) (σ fW_kindOf 0 o)).find? (fun k => decide (¬ (σ fW_told (24 + k) a = 0 ∧ σ fW_told (24 + k) c = 0))) with
  | some k => 24 + k
  | none => -1) else o
theorem s_w_toldAt_39 {σ : ga_S} {n : Int} (hF : FO (σ fW_parents 0) n) (d : Nat) {a c : Int} (ha : 0 ≤ a ∧ a < 24) (hc : 0 ≤ c ∧ c < 24) : ∀ k, -1 ≤ k → k < n → w_toldAt_39 d σ a c k = some ((match (CH (σ fW_parents 0) k).find? (fun k => decide (¬ (σ fW_told (24 + k) a = 0 ∧ σ fW_told (24 + k) c = 0))) with
  | some k => 24 + k
  | none => -1), σ) := by
  refine FO_ind hF ?_ ?_
  · rw [e_w_toldAt_39, if_pos (by decide), CH_neg _ (by omega)]; rfl
  · intro k h0 h1 ih
    have h16 := hF.1
    rw [e_w_toldAt_39, if_neg (by omega), w32_ok (by omega), ck_ok _ (by omega), nn_ok _ (by omega), ck_ok _ ha, CH_s hF h0 h1, List.find?_cons]
    by_cases c1 : σ fW_told (24 + k) a = 0
    · rw [if_pos c1, ck_ok _ (by omega), nn_ok _ (by omega), ck_ok _ hc]
      by_cases c2 : σ fW_told (24 + k) c = 0
      · rw [if_pos c2, ck_ok _ (by omega), ih]; simp [c1, c2]
      · rw [if_neg c2]; simp [c2]
    · rw [if_neg c1]; simp [c1]
theorem s_w_toldAt {σ : ga_S} {n : Int} (hF : FO (σ fW_parents 0) n) {d : Nat} (hd : 1 ≤ d) {o a : Int} (ha : 0 ≤ a ∧ a < 24) (hc : 0 ≤ σ fW_contraries 0 a ∧ σ fW_contraries 0 a < 24) (ho : 0 ≤ o ∧ o < 24) (h1 : -1 ≤ σ fW_kindOf 0 o) (h2 : σ fW_kindOf 0 o < n) : c_w_toldAt d σ o a = some (toldRow σ o a (σ fW_contraries 0 a), σ) := by
  obtain ⟨d, rfl⟩ : ∃ e, d = e + 1 := ⟨d - 1, by omega⟩
  rw [e_w_toldAt, ck_ok _ ha, ck_ok _ (by omega), nn_ok _ (by omega), ck_ok _ ha, toldRow]
  by_cases c1 : σ fW_told o a = 0
  · rw [if_pos c1, ck_ok _ (by omega), nn_ok _ (by omega), ck_ok _ hc]
    by_cases c2 : σ fW_told o (σ fW_contraries 0 a) = 0
    · rw [if_pos c2, ck_ok _ ho, if_pos ⟨c1, c2⟩, s_w_toldAt_39 hF d ha hc _ h1 h2]
    · rw [if_neg c2, if_neg (fun z => c2 z.2)]
  · rw [if_neg c1, if_neg (fun z => c1 z.1)]
/-- whether an adjective with a contrary holds -/
def isT (σ : ga_S) (o a : Int) : Bool := if toldRow σ o a (σ fW_contraries 0 a) = -1 then decide (σ fW_contraries 0 a < a) else decide (σ fW_told (toldRow σ o a (σ fW_contraries 0 a)) a = 1)
theorem toldRow_r {σ : ga_S} {n : Int} (hF : FO (σ fW_parents 0) n) {o a c : Int} (ho : 0 ≤ o ∧ o < 24) (h1 : -1 ≤ σ fW_kindOf 0 o) (h2 : σ fW_kindOf 0 o < n) : -1 ≤ toldRow σ o a c ∧ toldRow σ o a c < 40 := by
  have h16 := hF.1
  unfold toldRow
  split
  · split
    · rename_i k e
      have hm := CH_mem hF _ h1 h2 k (List.mem_of_find?_eq_some e)
      omega
    · omega
  · omega
theorem s_w_isTold {σ : ga_S} {n : Int} (hF : FO (σ fW_parents 0) n) {d : Nat} (hd : 2 ≤ d) {o a : Int} (ha : 0 ≤ a ∧ a < 24) (hc : 0 ≤ σ fW_contraries 0 a ∧ σ fW_contraries 0 a < 24) (ho : 0 ≤ o ∧ o < 24) (hT : ∀ r, 0 ≤ r → r < 40 → σ fW_told r a = 0 ∨ σ fW_told r a = 1) (h1 : -1 ≤ σ fW_kindOf 0 o) (h2 : σ fW_kindOf 0 o < n) : c_w_isTold d σ o a = some (b2i (isT σ o a), σ) := by
  obtain ⟨d, rfl⟩ : ∃ e, d = e + 1 := ⟨d - 1, by omega⟩
  have r := toldRow_r (a := a) (c := σ fW_contraries 0 a) hF ho h1 h2
  rw [e_w_isTold, s_w_toldAt hF (by omega) ha hc ho h1 h2]; simp only [Option.bind_some]; rw [isT]
  by_cases c : toldRow σ o a (σ fW_contraries 0 a) = -1
  · rw [if_pos c, if_pos c, ck_ok _ ha]
    by_cases c2 : σ fW_contraries 0 a < a
    · rw [if_pos c2]; simp [c2, b2i]
    · rw [if_neg c2]; simp [c2, b2i]
  · have t := hT _ (by omega) r.2
    rw [if_neg c, if_neg c, ck_ok _ (by omega), nn_ok _ (by omega), ck_ok _ ha, z1_ok _ t]
    rcases t with t | t <;> rw [t] <;> rfl
/-- how the model keeps it -/
def tv (σ : ga_S) (r a : Int) : Int := if σ fW_told r a = 0 then (if σ fW_told r (σ fW_contraries 0 a) = 0 then 0 else 2) else 1
theorem s_m_holds_162 {σ τ : ga_S} {n : Int} (hF : FO (σ fW_parents 0) n) (hP : ∀ k, 0 ≤ k → k < n → τ fM_above 0 k = σ fW_parents 0 k) (d : Nat) {a : Int} (ha : 0 ≤ a ∧ a < 24) (hT : ∀ r, 0 ≤ r → r < 40 → σ fW_told r a = 0 ∨ σ fW_told r a = 1) (hc : τ fM_contrary 0 a = σ fW_contraries 0 a) (hc0 : 0 ≤ σ fW_contraries 0 a) (hk : ∀ k, 0 ≤ k → k < n → τ fM_kindIs 0 (24 * k + a) = tv σ (24 + k) a) : ∀ k, -1 ≤ k → k < n → m_holds_162 d τ a k = some (b2i (match (CH (σ fW_parents 0) k).find? (fun k => decide (¬ (σ fW_told (24 + k) a = 0 ∧ σ fW_told (24 + k) (σ fW_contraries 0 a) = 0))) with
  | some k => decide (σ fW_told (24 + k) a = 1)
  | none => decide (σ fW_contraries 0 a < a)), τ) := by
  refine FO_ind hF ?_ ?_
  · rw [e_m_holds_162, if_pos (by omega), CH_neg _ (by omega), ck_ok _ ha, hc, if_neg (by omega), ck_ok _ ha]
    by_cases c2 : σ fW_contraries 0 a < a
    · rw [if_pos c2]; simp [c2, b2i]
    · rw [if_neg c2]; simp [c2, b2i]
  · intro k h0 h1 ih
    have h16 := hF.1
    have t := hT (24 + k) (by omega) (by omega)
    rw [e_m_holds_162, if_neg (by omega), w32_ok (x := 24 * k) (by omega), w32_ok (by omega), ck_ok _ (by omega), hk k h0 h1, CH_s hF h0 h1, List.find?_cons]
    unfold tv
    by_cases c1 : σ fW_told (24 + k) a = 0
    · by_cases c2 : σ fW_told (24 + k) (σ fW_contraries 0 a) = 0
      · rw [if_pos c1, if_pos c2, if_pos (by decide), ck_ok _ (by omega), hP k h0 h1, ih]; simp [c1, c2]
      · rw [if_pos c1, if_neg c2, if_neg (by decide), ck_ok _ (by omega), if_neg (by decide)]; simp [c1, c2, b2i]
    · have t1 : σ fW_told (24 + k) a = 1 := by omega
      rw [if_neg c1, if_neg (by decide), ck_ok _ (by omega), if_pos (by decide)]; simp [t1, b2i]
/-- the model's holds of an adjective that isn't defined -/
theorem s_m_holds0 {σ τ : ga_S} {n : Int} (hF : FO (σ fW_parents 0) n) (hP : ∀ k, 0 ≤ k → k < n → τ fM_above 0 k = σ fW_parents 0 k) {d : Nat} (hd : 1 ≤ d) {o a e : Int} (ha : 0 ≤ a ∧ a < 24) (ho : 0 ≤ o ∧ o < 24) (hD : τ fM_definedTests 0 a ≤ 0) (hT : ∀ r, 0 ≤ r → r < 40 → σ fW_told r a = 0 ∨ σ fW_told r a = 1) (hc : τ fM_contrary 0 a = σ fW_contraries 0 a) (hc0 : 0 ≤ σ fW_contraries 0 a) (hk : ∀ k, 0 ≤ k → k < n → τ fM_kindIs 0 (24 * k + a) = tv σ (24 + k) a) (hO : τ fM_objectIs 0 (24 * o + a) = tv σ o a) (hko : τ fM_kindOf 0 o = σ fW_kindOf 0 o) (h1 : -1 ≤ σ fW_kindOf 0 o) (h2 : σ fW_kindOf 0 o < n) : c_m_holds d τ o a e = some (b2i (isT σ o a), τ) := by
  obtain ⟨d, rfl⟩ : ∃ e, d = e + 1 := ⟨d - 1, by omega⟩
  have h16 := hF.1
  have t := hT o (by omega) (by omega)
  rw [e_m_holds, if_pos (by omega), ck_ok _ ha, if_neg (by omega), w32_ok (x := 24 * o) (by omega), w32_ok (by omega), ck_ok _ (by omega), hO]
  unfold tv
  by_cases c1 : σ fW_told o a = 0
  · by_cases c2 : σ fW_told o (σ fW_contraries 0 a) = 0
    · have er : toldRow σ o a (σ fW_contraries 0 a) = (match (CH (σ fW_parents 0) (σ fW_kindOf 0 o)).find? (fun k => decide (¬ (σ fW_told (24 + k) a = 0 ∧ σ fW_told (24 + k) (σ fW_contraries 0 a) = 0))) with
          | some k => 24 + k
          | none => -1) := by unfold toldRow; rw [if_pos ⟨c1, c2⟩]
      rw [if_pos c1, if_pos c2, if_pos (by decide), ck_ok _ ho, hko, s_m_holds_162 hF hP d ha hT hc hc0 hk _ h1 h2, isT, er]
      cases e2 : (CH (σ fW_parents 0) (σ fW_kindOf 0 o)).find? (fun k => decide (¬ (σ fW_told (24 + k) a = 0 ∧ σ fW_told (24 + k) (σ fW_contraries 0 a) = 0))) with
      | none => simp only [↓reduceIte]
      | some k =>
        have hm := CH_mem hF _ h1 h2 k (List.mem_of_find?_eq_some e2)
        simp only []
        rw [if_neg (show ¬ 24 + k = -1 by omega)]
    · have er : toldRow σ o a (σ fW_contraries 0 a) = o := by unfold toldRow; rw [if_neg (fun z => c2 z.2)]
      rw [if_pos c1, if_neg c2, if_neg (by decide), ck_ok _ (by omega), if_neg (by decide), isT, er, if_neg (by omega)]; simp [c1, b2i]
  · have t1 : σ fW_told o a = 1 := by omega
    have er : toldRow σ o a (σ fW_contraries 0 a) = o := by unfold toldRow; rw [if_neg (fun z => c1 z.1)]
    rw [if_neg c1, if_neg (by decide), ck_ok _ (by omega), if_pos (by decide), isT, er, if_neg (by omega)]; simp [t1, b2i]

/-! ranges -/
def rgF : Nat → Int → List Int
  | 0, _ => []
  | m + 1, i => i :: rgF m (i + 1)
/-- i, i + 1, .. up to n - 1 -/
def rg (i n : Int) : List Int := rgF (n - i).toNat i
theorem rg_s {i n : Int} (h : i < n) : rg i n = i :: rg (i + 1) n := by
  unfold rg
  rw [show (n - i).toNat = (n - (i + 1)).toNat + 1 by omega]; rfl
theorem rg_n {i n : Int} (h : n ≤ i) : rg i n = [] := by
  unfold rg
  rw [show (n - i).toNat = 0 by omega]; rfl
theorem rg_ind {n : Int} {Q : Int → Prop} (h0 : ∀ i, n ≤ i → Q i) (hs : ∀ i, i < n → Q (i + 1) → Q i) : ∀ i, Q i := by
  have main : ∀ (m : Nat) (i : Int), n - i ≤ m → Q i := by
    intro m
    induction m with
    | zero => intro i h; exact h0 i (by omega)
    | succ m ih =>
      intro i h
      by_cases c : i < n
      · exact hs i c (ih (i + 1) (by omega))
      · exact h0 i (by omega)
  intro i
  exact main (n - i).toNat i (by omega)
theorem rg_mem {n x : Int} : ∀ i, x ∈ rg i n ↔ i ≤ x ∧ x < n := by
  refine rg_ind (n := n) ?_ ?_
  · intro i h; rw [rg_n h]; simp; omega
  · intro i h ih; rw [rg_s h, List.mem_cons, ih]; omega
theorem rg_snoc {n : Int} : ∀ i, i ≤ n → rg i (n + 1) = rg i n ++ [n] := by
  intro i hi
  have main : ∀ i, i ≤ n → rg i (n + 1) = rg i n ++ [n] := by
    refine rg_ind (n := n) ?_ ?_
    · intro i h h2
      have e : i = n := by omega
      subst e
      rw [rg_s (by omega), rg_n (i := i + 1) (by omega), rg_n (i := i) (by omega)]; rfl
    · intro i h ih h2
      rw [rg_s (i := i) (n := n + 1) (by omega), rg_s h, ih (by omega)]; rfl
  exact main i hi
theorem up_up (σ : ga_S) (F : Nat) (n i v w : Int) : ga_up (ga_up σ F n i v) F n i w = ga_up σ F n i w := by
  funext F' n' i'
  unfold ga_up
  by_cases h : F' = F ∧ n' = n ∧ i' = i
  · rw [if_pos h, if_pos h]
  · rw [if_neg h, if_neg h, if_neg h]
theorem up_self (σ : ga_S) (F : Nat) (n i : Int) : ga_up σ F n i (σ F n i) = σ := by
  funext F' n' i'
  unfold ga_up
  by_cases h : F' = F ∧ n' = n ∧ i' = i
  · rw [if_pos h, h.1, h.2.1, h.2.2]
  · rw [if_neg h]
/-! properties of a type that a kind owns -/
def PL (σ : ga_S) (k t i : Int) : List Int := (rg i (σ fW_properties 0 0)).filter (fun p => decide (σ fW_propertyTypes 0 p = t) && own σ k p)
def po1 (acc : Int) (l : List Int) : Int := match l with
  | [] => acc
  | p :: r => po1 (if acc = -1 then p else -2) r
theorem s_w_propertyOf_5 {σ : ga_S} {n : Int} (hF : FO (σ fW_parents 0) n) {d : Nat} (hd : 1 ≤ d) {k t : Int} (hp : σ fW_properties 0 0 ≤ 12) (h1 : -1 ≤ k) (h2 : k < n) : ∀ i, 0 ≤ i → ∀ acc, w_propertyOf_5 d σ k t acc i = some (po1 acc (PL σ k t i), σ) := by
  refine rg_ind (n := σ fW_properties 0 0) ?_ ?_
  · intro i h h0 acc
    rw [e_w_propertyOf_5, if_neg (by omega)]
    unfold PL
    rw [rg_n h]; rfl
  · intro i h ih h0 acc
    rw [e_w_propertyOf_5, if_pos h, ck_ok _ (by omega)]
    have e : PL σ k t i = if (decide (σ fW_propertyTypes 0 i = t) && own σ k i) = true then i :: PL σ k t (i + 1) else PL σ k t (i + 1) := by
      unfold PL; rw [rg_s h, List.filter_cons]
    by_cases c1 : σ fW_propertyTypes 0 i = t
    · rw [if_pos c1, s_w_owns hF hd (by omega) h1 h2]; simp only [Option.bind_some]
      cases c2 : own σ k i with
      | false =>
        have e1 : PL σ k t i = PL σ k t (i + 1) := by rw [e]; simp [c2]
        rw [if_pos b2i_f, e_w_propertyOf_48, w32_ok (by omega), ih (by omega), e1]
      | true =>
        have e1 : PL σ k t i = i :: PL σ k t (i + 1) := by rw [e]; simp [c1, c2]
        rw [if_neg (by decide), e1]
        by_cases c3 : acc = -1
        · rw [if_pos c3, e_w_propertyOf_47, e_w_propertyOf_48, w32_ok (by omega), ih (by omega)]; simp [po1, c3]
        · rw [if_neg c3, e_w_propertyOf_47, e_w_propertyOf_48, w32_ok (by omega), ih (by omega)]; simp [po1, c3]
    · have e1 : PL σ k t i = PL σ k t (i + 1) := by rw [e]; simp [c1]
      rw [if_neg c1, e_w_propertyOf_48, w32_ok (by omega), ih (by omega), e1]
theorem s_w_propertyOf {σ : ga_S} {n : Int} (hF : FO (σ fW_parents 0) n) {d : Nat} (hd : 2 ≤ d) {k t : Int} (hp : σ fW_properties 0 0 ≤ 12) (h1 : -1 ≤ k) (h2 : k < n) : c_w_propertyOf d σ k t = some (po1 (-1) (PL σ k t 0), σ) := by
  obtain ⟨d, rfl⟩ : ∃ e, d = e + 1 := ⟨d - 1, by omega⟩
  rw [e_w_propertyOf, s_w_propertyOf_5 hF (by omega) hp h1 h2 0 (by omega)]
theorem s_m_propertyOf_10 {σ τ : ga_S} {n : Int} (hF : FO (σ fW_parents 0) n) (hP : ∀ k, 0 ≤ k → k < n → τ fM_above 0 k = σ fW_parents 0 k) (hp : σ fW_properties 0 0 ≤ 12) (hq : τ fM_properties 0 0 = σ fW_properties 0 0) (ht : ∀ p, 0 ≤ p → p < σ fW_properties 0 0 → τ fM_propertyType 0 p = σ fW_propertyTypes 0 p) (hb : ∀ k p, 0 ≤ k → k < n → 0 ≤ p → p < σ fW_properties 0 0 → τ fM_kindHas 0 (12 * k + p) = b2i (bitI (σ fW_propertyKinds 0 p) k)) {d : Nat} (hd : 1 ≤ d) {k t : Int} (h1 : 0 ≤ k) (h2 : k < n) : ∀ i, 0 ≤ i → ∀ acc m, 0 ≤ m → m ≤ i → m_propertyOf_10 d (ga_up τ fM_matches 0 0 m) k t acc i = some (if m = 0 then (PL σ k t i).headD acc else acc, ga_up τ fM_matches 0 0 (m + ((PL σ k t i).length : Int))) := by
  refine rg_ind (n := σ fW_properties 0 0) ?_ ?_
  · intro i h h0 acc m hm hmi
    have e : PL σ k t i = [] := by unfold PL; rw [rg_n h]; rfl
    rw [e_m_propertyOf_10, if_neg (by rw [up_F (by decide), hq]; omega), e]
    simp
  · intro i h ih h0 acc m hm hmi
    have u : ∀ F, F ≠ fM_matches → (ga_up τ fM_matches 0 0 m) F = τ F := fun F hF => up_F hF τ 0 0 m
    rw [e_m_propertyOf_10, if_pos (by rw [up_F (by decide), hq]; exact h), if_neg (by omega), ck_ok _ (by omega), u fM_propertyType (by decide), ht i h0 h]
    have e : PL σ k t i = if (decide (σ fW_propertyTypes 0 i = t) && own σ k i) = true then i :: PL σ k t (i + 1) else PL σ k t (i + 1) := by
      unfold PL; rw [rg_s h, List.filter_cons]
    by_cases c1 : σ fW_propertyTypes 0 i = t
    · rw [if_pos c1, s_m_has (τ := ga_up τ fM_matches 0 0 m) hF (by rw [u fM_above (by decide)]; exact hP) hd (p := i) (by omega) (b := bitI (σ fW_propertyKinds 0 i)) (by rw [u fM_kindHas (by decide)]; exact fun k a b => hb k i a b h0 h) (by omega) h2]; simp only [Option.bind_some]
      show (if b2i (own σ k i) = 0 then _ else _) = _
      cases c2 : own σ k i with
      | false =>
        have e1 : PL σ k t i = PL σ k t (i + 1) := by rw [e]; simp [c2]
        rw [if_pos b2i_f, e_m_propertyOf_68, w32_ok (by omega), ih (by omega) acc m hm (by omega), e1]
      | true =>
        have e1 : PL σ k t i = i :: PL σ k t (i + 1) := by rw [e]; simp [c1, c2]
        rw [if_neg (by decide), up_eq, e1]
        by_cases c3 : m = 0
        · rw [if_pos c3, e_m_propertyOf_57, e_m_propertyOf_68, up_eq, w32_ok (x := m + 1) (by omega), w32_ok (x := i + 1) (by omega), up_up, ih (by omega) i (m + 1) (by omega) (by omega), if_neg (by omega), if_pos c3, List.length_cons]
          simp only [List.headD_cons]; congr 3; omega
        · rw [if_neg c3, e_m_propertyOf_57, e_m_propertyOf_68, up_eq, w32_ok (x := m + 1) (by omega), w32_ok (x := i + 1) (by omega), up_up, ih (by omega) acc (m + 1) (by omega) (by omega), if_neg (by omega), if_neg c3, List.length_cons]
          congr 3; omega
    · have e1 : PL σ k t i = PL σ k t (i + 1) := by rw [e]; simp [c1]
      rw [if_neg c1, e_m_propertyOf_68, w32_ok (by omega), ih (by omega) acc m hm (by omega), e1]
/-! where a property is told; what it is -/
def hasRow (σ : ga_S) (o p : Int) : Int := if σ fW_has o p = 0 then (match (CH (σ fW_parents 0) (σ fW_kindOf 0 o)).find? (fun k => decide (¬ σ fW_has (24 + k) p = 0)) with
  | some k => 24 + k
  | none => -1) else o
theorem s_w_hasAt_20 {σ : ga_S} {n : Int} (hF : FO (σ fW_parents 0) n) (d : Nat) {p : Int} (hp : 0 ≤ p ∧ p < 12) : ∀ k, -1 ≤ k → k < n → w_hasAt_20 d σ p k = some ((match (CH (σ fW_parents 0) k).find? (fun k => decide (¬ σ fW_has (24 + k) p = 0)) with
  | some k => 24 + k
  | none => -1), σ) := by
  refine FO_ind hF ?_ ?_
  · rw [e_w_hasAt_20, if_pos (by decide), CH_neg _ (by omega)]; rfl
  · intro k h0 h1 ih
    have h16 := hF.1
    rw [e_w_hasAt_20, if_neg (by omega), w32_ok (by omega), ck_ok _ (by omega), nn_ok _ (by omega), ck_ok _ hp, CH_s hF h0 h1, List.find?_cons]
    by_cases c : σ fW_has (24 + k) p = 0
    · rw [if_pos c, ck_ok _ (by omega), ih]; simp [c]
    · rw [if_neg c]; simp [c]
theorem s_w_hasAt {σ : ga_S} {n : Int} (hF : FO (σ fW_parents 0) n) {d : Nat} (hd : 1 ≤ d) {o p : Int} (hp : 0 ≤ p ∧ p < 12) (ho : 0 ≤ o ∧ o < 24) (h1 : -1 ≤ σ fW_kindOf 0 o) (h2 : σ fW_kindOf 0 o < n) : c_w_hasAt d σ o p = some (hasRow σ o p, σ) := by
  obtain ⟨d, rfl⟩ : ∃ e, d = e + 1 := ⟨d - 1, by omega⟩
  rw [e_w_hasAt, ck_ok _ (by omega), nn_ok _ (by omega), ck_ok _ hp, hasRow]
  by_cases c : σ fW_has o p = 0
  · rw [if_pos c, if_pos c, ck_ok _ ho, s_w_hasAt_20 hF d hp _ h1 h2]
  · rw [if_neg c, if_neg c]
theorem hasRow_r {σ : ga_S} {n : Int} (hF : FO (σ fW_parents 0) n) {o p : Int} (ho : 0 ≤ o ∧ o < 24) (h1 : -1 ≤ σ fW_kindOf 0 o) (h2 : σ fW_kindOf 0 o < n) : -1 ≤ hasRow σ o p ∧ hasRow σ o p < 40 ∧ (hasRow σ o p ≠ -1 → ¬ σ fW_has (hasRow σ o p) p = 0) := by
  have h16 := hF.1
  unfold hasRow
  by_cases c : σ fW_has o p = 0
  · rw [if_pos c]
    split
    · rename_i k e
      have hm := CH_mem hF _ h1 h2 k (List.mem_of_find?_eq_some e)
      have hk := List.find?_some e
      exact ⟨by omega, by omega, fun _ => by simpa using hk⟩
    · exact ⟨by omega, by omega, fun z => absurd rfl z⟩
  · rw [if_neg c]; exact ⟨by omega, by omega, fun _ => c⟩
def firstV (σ : ga_S) (t i : Int) : Int := match (rg i (σ fW_values 0 0)).find? (fun v => decide (σ fW_valueTypes 0 v = t)) with
  | some v => v
  | none => -1
theorem firstV_s {σ : ga_S} {t i : Int} (h : i < σ fW_values 0 0) : firstV σ t i = if σ fW_valueTypes 0 i = t then i else firstV σ t (i + 1) := by
  unfold firstV
  rw [rg_s h, List.find?_cons]
  by_cases c : σ fW_valueTypes 0 i = t
  · simp [c]
  · simp [c]
theorem s_w_firstValue_2 {σ : ga_S} (d : Nat) (t : Int) (hv : σ fW_values 0 0 ≤ 64) : ∀ i, 0 ≤ i → w_firstValue_2 d σ t i = some (firstV σ t i, σ) := by
  refine rg_ind (n := σ fW_values 0 0) ?_ ?_
  · intro i h h0
    rw [e_w_firstValue_2, if_neg (by omega)]; unfold firstV; rw [rg_n h]; rfl
  · intro i h ih h0
    rw [e_w_firstValue_2, if_pos h, ck_ok _ (by omega), firstV_s h]
    by_cases c : σ fW_valueTypes 0 i = t
    · rw [if_pos c, if_pos c]
    · rw [if_neg c, if_neg c, w32_ok (by omega), ih (by omega)]
theorem s_w_firstValue {σ : ga_S} {d : Nat} (hd : 1 ≤ d) (t : Int) (hv : σ fW_values 0 0 ≤ 64) : c_w_firstValue d σ t = some (firstV σ t 0, σ) := by
  obtain ⟨d, rfl⟩ : ∃ e, d = e + 1 := ⟨d - 1, by omega⟩
  rw [e_w_firstValue, s_w_firstValue_2 d t hv 0 (by omega)]
/-- a property's number or value -/
def numV (σ : ga_S) (o p : Int) : Int := if hasRow σ o p = -1 then (if σ fW_propertyTypes 0 p = 0 then 0 else firstV σ (σ fW_propertyTypes 0 p) 0) else σ fW_numbers (hasRow σ o p) p
theorem s_w_number {σ : ga_S} {n : Int} (hF : FO (σ fW_parents 0) n) {d : Nat} (hd : 2 ≤ d) {o p : Int} (hp : 0 ≤ p ∧ p < 12) (ho : 0 ≤ o ∧ o < 24) (hv : σ fW_values 0 0 ≤ 64) (h1 : -1 ≤ σ fW_kindOf 0 o) (h2 : σ fW_kindOf 0 o < n) : c_w_number d σ o p = some (numV σ o p, σ) := by
  obtain ⟨d, rfl⟩ : ∃ e, d = e + 1 := ⟨d - 1, by omega⟩
  have r := hasRow_r (p := p) hF ho h1 h2
  rw [e_w_number, s_w_hasAt hF (by omega) hp ho h1 h2]; simp only [Option.bind_some]; rw [numV]
  by_cases c : hasRow σ o p = -1
  · rw [if_pos c, if_pos c, ck_ok _ hp]
    by_cases c2 : σ fW_propertyTypes 0 p = 0
    · rw [if_pos c2, if_pos c2]
    · rw [if_neg c2, if_neg c2, s_w_firstValue (by omega) _ hv]; simp only [Option.bind_some]
  · rw [if_neg c, if_neg c, ck_ok _ (by omega), nn_ok _ (by omega), ck_ok _ hp]

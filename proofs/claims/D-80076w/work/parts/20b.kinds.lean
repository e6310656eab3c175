/-! kinds: below, how deep, what they own -/
theorem s_w_isBelow_2 {σ : ga_S} {n : Int} (hF : FO (σ fW_parents 0) n) (d : Nat) (a : Int) : ∀ k, -1 ≤ k → k < n → w_isBelow_2 d σ a k = some (b2i (isB (σ fW_parents 0) k a), σ) := by
  refine FO_ind hF ?_ ?_
  · rw [e_w_isBelow_2, if_pos (by decide), e_w_isBelow_22, isB_n _ _ (by omega)]
    split
    · rw [if_pos (by omega)]; rfl
    · rfl
  · intro k h0 h1 ih
    have h16 := hF.1
    have c1 : ¬ k = -1 := by omega
    rw [e_w_isBelow_2, if_neg c1, isB_s hF a h0 h1]
    by_cases c2 : k = a
    · rw [if_pos c2, e_w_isBelow_22, if_pos c2, if_neg (by omega)]; simp [c2, b2i]
    · rw [if_neg c2, ck_ok _ (by omega), ih]; simp [c2]
theorem s_w_isBelow {σ : ga_S} {n : Int} (hF : FO (σ fW_parents 0) n) {d : Nat} (hd : 1 ≤ d) {k : Int} (a : Int) (h1 : -1 ≤ k) (h2 : k < n) : c_w_isBelow d σ k a = some (b2i (isB (σ fW_parents 0) k a), σ) := by
  obtain ⟨d, rfl⟩ : ∃ e, d = e + 1 := ⟨d - 1, by omega⟩
  rw [e_w_isBelow, s_w_isBelow_2 hF d a k h1 h2]
theorem s_m_isBelow_2 {τ : ga_S} {P : Int → Int} {n : Int} (hF : FO P n) (hP : ∀ k, 0 ≤ k → k < n → τ fM_above 0 k = P k) (d : Nat) (a : Int) : ∀ k, -1 ≤ k → k < n → m_isBelow_2 d τ a k = some (b2i (isB P k a), τ) := by
  refine FO_ind hF ?_ ?_
  · rw [e_m_isBelow_2, if_pos (by omega), e_m_isBelow_21, isB_n _ _ (by omega)]
    split
    · rw [if_pos (by omega)]; rfl
    · rfl
  · intro k h0 h1 ih
    have h16 := hF.1
    have c1 : ¬ k < 0 := by omega
    rw [e_m_isBelow_2, if_neg c1, isB_s hF a h0 h1]
    by_cases c2 : k = a
    · rw [if_pos c2, e_m_isBelow_21, if_pos c2, if_neg c1]; simp [c2, b2i]
    · rw [if_neg c2, ck_ok _ (by omega), hP k h0 h1, ih]; simp [c2]
theorem s_m_isBelow {τ : ga_S} {P : Int → Int} {n : Int} (hF : FO P n) (hP : ∀ k, 0 ≤ k → k < n → τ fM_above 0 k = P k) {d : Nat} (hd : 1 ≤ d) {k : Int} (a : Int) (h1 : -1 ≤ k) (h2 : k < n) : c_m_isBelow d τ k a = some (b2i (isB P k a), τ) := by
  obtain ⟨d, rfl⟩ : ∃ e, d = e + 1 := ⟨d - 1, by omega⟩
  rw [e_m_isBelow, s_m_isBelow_2 hF hP d a k h1 h2]
theorem s_w_depth_4 {σ : ga_S} {n : Int} (hF : FO (σ fW_parents 0) n) (d : Nat) : ∀ k, -1 ≤ k → k < n → ∀ v : Int, 0 ≤ v → v + k < 100 → w_depth_4 d σ v k = some (v + ((CH (σ fW_parents 0) k).length : Int), σ) := by
  refine FO_ind hF ?_ ?_
  · intro v hv hk
    rw [e_w_depth_4, if_pos (by decide), CH_neg _ (by omega)]; simp
  · intro k h0 h1 ih v hv hk
    have h16 := hF.1
    have b := hF.2 k h0 h1
    rw [e_w_depth_4, if_neg (by omega), ck_ok _ (by omega), w32_ok (by omega), ih (v + 1) (by omega) (by omega), CH_s hF h0 h1, List.length_cons]
    simp only [Option.some.injEq, Prod.mk.injEq, and_true]; omega
theorem s_w_depth {σ : ga_S} {n : Int} (hF : FO (σ fW_parents 0) n) {d : Nat} (hd : 1 ≤ d) {k : Int} (h1 : -1 ≤ k) (h2 : k < n) : c_w_depth d σ k = some (((CH (σ fW_parents 0) k).length : Int), σ) := by
  obtain ⟨d, rfl⟩ : ∃ e, d = e + 1 := ⟨d - 1, by omega⟩
  have h16 := hF.1
  rw [e_w_depth, s_w_depth_4 hF d k h1 h2 0 (by omega) (by omega)]; simp
theorem s_m_depthOf_4 {τ : ga_S} {P : Int → Int} {n : Int} (hF : FO P n) (hP : ∀ k, 0 ≤ k → k < n → τ fM_above 0 k = P k) (d : Nat) : ∀ k, -1 ≤ k → k < n → ∀ v : Int, 0 ≤ v → v + k < 100 → m_depthOf_4 d τ v k = some (v + ((CH P k).length : Int), τ) := by
  refine FO_ind hF ?_ ?_
  · intro v hv hk
    rw [e_m_depthOf_4, if_pos (by omega), CH_neg _ (by omega)]; simp
  · intro k h0 h1 ih v hv hk
    have h16 := hF.1
    have b := hF.2 k h0 h1
    rw [e_m_depthOf_4, if_neg (by omega), ck_ok _ (by omega), w32_ok (by omega), hP k h0 h1, ih (v + 1) (by omega) (by omega), CH_s hF h0 h1, List.length_cons]
    simp only [Option.some.injEq, Prod.mk.injEq, and_true]; omega
theorem s_m_depthOf {τ : ga_S} {P : Int → Int} {n : Int} (hF : FO P n) (hP : ∀ k, 0 ≤ k → k < n → τ fM_above 0 k = P k) {d : Nat} (hd : 1 ≤ d) {k : Int} (h1 : -1 ≤ k) (h2 : k < n) : c_m_depthOf d τ k = some (((CH P k).length : Int), τ) := by
  obtain ⟨d, rfl⟩ : ∃ e, d = e + 1 := ⟨d - 1, by omega⟩
  have h16 := hF.1
  rw [e_m_depthOf, s_m_depthOf_4 hF hP d k h1 h2 0 (by omega) (by omega)]; simp
theorem s_w_isKind {σ : ga_S} {n : Int} (hF : FO (σ fW_parents 0) n) {d : Nat} (hd : 2 ≤ d) {o : Int} (a : Int) (ho : 0 ≤ o ∧ o < 24) (h1 : -1 ≤ σ fW_kindOf 0 o) (h2 : σ fW_kindOf 0 o < n) : c_w_isKind d σ o a = some (b2i (isB (σ fW_parents 0) (σ fW_kindOf 0 o) a), σ) := by
  obtain ⟨d, rfl⟩ : ∃ e, d = e + 1 := ⟨d - 1, by omega⟩
  rw [e_w_isKind, ck_ok _ ho, s_w_isBelow hF (by omega) a h1 h2]; simp only [Option.bind_some]; rw [z1_ok _ (b2i_01 _)]
/-- whether a set of kinds, by its bits, has a kind -/
def bitI (M k : Int) : Bool := decide (ga_iand (ga_ishr M k) 1 = 1)
theorem s_w_owns_5 {σ : ga_S} {n : Int} (hF : FO (σ fW_parents 0) n) (d : Nat) {p : Int} (hp : 0 ≤ p ∧ p < 12) : ∀ k, -1 ≤ k → k < n → ∀ b : Bool, w_owns_5 d σ p (b2i b) k = some (b2i (b || (CH (σ fW_parents 0) k).any (bitI (σ fW_propertyKinds 0 p))), σ) := by
  refine FO_ind hF ?_ ?_
  · intro b
    rw [e_w_owns_5, if_pos (by decide), CH_neg _ (by omega), z1_ok _ (b2i_01 _)]; simp
  · intro k h0 h1 ih b
    have h16 := hF.1
    rw [e_w_owns_5, if_neg (by omega), ck_ok _ hp, CH_s hF h0 h1, List.any_cons]
    by_cases c : ga_iand (ga_ishr (σ fW_propertyKinds 0 p) k) 1 = 1
    · have e : bitI (σ fW_propertyKinds 0 p) k = true := decide_eq_true c
      rw [if_pos c, e_w_owns_32, ck_ok _ (by omega), e]
      rw [show (1 : Int) = b2i true from rfl, b2i_or, ih]; simp
    · have e : bitI (σ fW_propertyKinds 0 p) k = false := decide_eq_false c
      rw [if_neg c, e_w_owns_32, ck_ok _ (by omega), e]
      have eb := b2i_or b false
      rw [b2i_f] at eb
      rw [eb, ih]; simp
/-- whether a kind owns a property -/
def own (σ : ga_S) (k p : Int) : Bool := (CH (σ fW_parents 0) k).any (bitI (σ fW_propertyKinds 0 p))
theorem s_w_owns {σ : ga_S} {n : Int} (hF : FO (σ fW_parents 0) n) {d : Nat} (hd : 1 ≤ d) {k p : Int} (hp : 0 ≤ p ∧ p < 12) (h1 : -1 ≤ k) (h2 : k < n) : c_w_owns d σ k p = some (b2i (own σ k p), σ) := by
  obtain ⟨d, rfl⟩ : ∃ e, d = e + 1 := ⟨d - 1, by omega⟩
  have e := s_w_owns_5 hF d hp k h1 h2 false
  rw [b2i_f] at e
  rw [e_w_owns, e]; simp [own]
theorem s_m_has_2 {τ : ga_S} {P : Int → Int} {n : Int} (hF : FO P n) (hP : ∀ k, 0 ≤ k → k < n → τ fM_above 0 k = P k) (d : Nat) {p : Int} (hp : 0 ≤ p ∧ p < 12) {b : Int → Bool} (hb : ∀ k, 0 ≤ k → k < n → τ fM_kindHas 0 (12 * k + p) = b2i (b k)) : ∀ k, -1 ≤ k → k < n → m_has_2 d τ p k = some (b2i ((CH P k).any b), τ) := by
  refine FO_ind hF ?_ ?_
  · rw [e_m_has_2, if_pos (by omega), CH_neg _ (by omega)]; rfl
  · intro k h0 h1 ih
    have h16 := hF.1
    rw [e_m_has_2, if_neg (by omega), w32_ok (x := 12 * k) (by omega), w32_ok (by omega), ck_ok _ (by omega), hb k h0 h1, CH_s hF h0 h1, List.any_cons]
    cases e : b k with
    | true => rw [if_neg (by simp [b2i])]; rfl
    | false => rw [if_pos (by decide), ck_ok _ (by omega), hP k h0 h1, ih]; simp
theorem s_m_has {τ : ga_S} {P : Int → Int} {n : Int} (hF : FO P n) (hP : ∀ k, 0 ≤ k → k < n → τ fM_above 0 k = P k) {d : Nat} (hd : 1 ≤ d) {p : Int} (hp : 0 ≤ p ∧ p < 12) {b : Int → Bool} (hb : ∀ k, 0 ≤ k → k < n → τ fM_kindHas 0 (12 * k + p) = b2i (b k)) {k : Int} (h1 : -1 ≤ k) (h2 : k < n) : c_m_has d τ k p = some (b2i ((CH P k).any b), τ) := by
  obtain ⟨d, rfl⟩ : ∃ e, d = e + 1 := ⟨d - 1, by omega⟩
  rw [e_m_has, s_m_has_2 hF hP d hp hb k h1 h2]

/-! what lies within what -/
/-- n steps up -/
def itP (P : Int → Int) : Nat → Int → Int
  | 0, x => x
  | n + 1, x => if x = -1 then -1 else itP P n (P x)
/-- is t met within n steps from x -/
def wi (P : Int → Int) (t : Int) : Nat → Int → Bool
  | 0, _ => false
  | n + 1, x => if x = -1 then false else if x = t then true else wi P t n (P x)
theorem wi_st {P : Int → Int} {t : Int} : ∀ (n : Nat) (x : Int), itP P n x = -1 → ∀ m, n < m → wi P t m x = wi P t (n + 1) x := by
  intro n
  induction n with
  | zero =>
    intro x h m hm
    obtain ⟨m, rfl⟩ : ∃ e, m = e + 1 := ⟨m - 1, by omega⟩
    have h' : x = -1 := h
    show (if x = -1 then false else if x = t then true else wi P t m (P x)) = (if x = -1 then false else if x = t then true else wi P t 0 (P x))
    rw [if_pos h', if_pos h']
  | succ n ih =>
    intro x h m hm
    obtain ⟨m, rfl⟩ : ∃ e, m = e + 1 := ⟨m - 1, by omega⟩
    show (if x = -1 then false else if x = t then true else wi P t m (P x)) = (if x = -1 then false else if x = t then true else wi P t (n + 1) (P x))
    by_cases c : x = -1
    · rw [if_pos c, if_pos c]
    · rw [if_neg c, if_neg c]
      by_cases c2 : x = t
      · rw [if_pos c2, if_pos c2]
      · rw [if_neg c2, if_neg c2]
        have h' : itP P n (P x) = -1 := by
          have : (if x = -1 then -1 else itP P n (P x)) = -1 := h
          rw [if_neg c] at this; exact this
        exact ih (P x) h' m (by omega)
/-- a table of places without rings -/
def RK (P : Int → Int) (O : Int) (R : Int → Nat) : Prop := ∀ x, 0 ≤ x → x < O → P x = -1 ∨ (0 ≤ P x ∧ P x < O ∧ R (P x) < R x)
theorem it_rank {P : Int → Int} {O : Int} {R : Int → Nat} (h : RK P O R) : ∀ (n : Nat) (x : Int), 0 ≤ x → x < O → R x < n → itP P n x = -1 := by
  intro n
  induction n with
  | zero => intro x _ _ hn; omega
  | succ n ih =>
    intro x h0 h1 hn
    show (if x = -1 then -1 else itP P n (P x)) = -1
    rw [if_neg (by omega)]
    rcases h x h0 h1 with z | z
    · rw [z]
      cases n with
      | zero => rfl
      | succ n => rfl
    · exact ih (P x) z.1 z.2.1 (by omega)
/-- the steps are all different -/
theorem it_lt {P : Int → Int} {O : Int} {R : Int → Nat} (h : RK P O R) : ∀ (n : Nat) (x : Int), 0 ≤ x → x < O → itP P n x ≠ -1 → (0 ≤ itP P n x ∧ itP P n x < O) ∧ R (itP P n x) + n ≤ R x := by
  intro n
  induction n with
  | zero => intro x h0 h1 _; exact ⟨⟨h0, h1⟩, Nat.le_refl _⟩
  | succ n ih =>
    intro x h0 h1 hn
    have e : itP P (n + 1) x = itP P n (P x) := by show (if x = -1 then -1 else itP P n (P x)) = _; rw [if_neg (by omega)]
    rw [e] at hn ⊢
    rcases h x h0 h1 with z | z
    · exfalso
      rw [z] at hn
      cases n with
      | zero => exact hn rfl
      | succ n => exact hn rfl
    · have w := ih (P x) z.1 z.2.1 hn
      exact ⟨w.1, by omega⟩
theorem it_add {P : Int → Int} : ∀ (n m : Nat) (x : Int), itP P (n + m) x = itP P m (itP P n x) := by
  intro n
  induction n with
  | zero => intro m x; rw [Nat.zero_add]; rfl
  | succ n ih =>
    intro m x
    rw [show n + 1 + m = (n + m) + 1 by omega]
    show (if x = -1 then -1 else itP P (n + m) (P x)) = itP P m (if x = -1 then -1 else itP P n (P x))
    by_cases c : x = -1
    · rw [if_pos c, if_pos c]
      cases m with
      | zero => rfl
      | succ m => rfl
    · rw [if_neg c, if_neg c]; exact ih m (P x)
theorem it_24 {P : Int → Int} {O : Int} {R : Int → Nat} (h : RK P O R) (hO : O ≤ 24) {x : Int} (h0 : 0 ≤ x) (h1 : x < O) : itP P 24 x = -1 := by
  refine Classical.byContradiction fun z => ?_
  have ne : ∀ n, n ≤ 24 → itP P n x ≠ -1 := by
    intro n hn y
    apply z
    obtain ⟨m, em⟩ : ∃ m, 24 = n + m := ⟨24 - n, by omega⟩
    have e := it_add (P := P) n m x
    rw [em, e, y]
    cases m with
    | zero => rfl
    | succ m => rfl
  have p := pigeon 24 25 (fun n => (itP P n x).toNat) (fun i hi => by
      have := (it_lt h i x h0 h1 (ne i (by omega))).1
      show (itP P i x).toNat < 24
      omega) (fun i j hi hj e => by
      have e' : (itP P i x).toNat = (itP P j x).toNat := e
      have a := (it_lt h i x h0 h1 (ne i (by omega))).1
      have b := (it_lt h j x h0 h1 (ne j (by omega))).1
      have ee : itP P i x = itP P j x := by omega
      have key : ∀ i j : Nat, i < j → j ≤ 24 → itP P i x ≠ itP P j x := by
        intro i j hij hj y
        obtain ⟨m, rfl⟩ : ∃ m, j = i + m := ⟨j - i, by omega⟩
        have w := it_add (P := P) i m x
        have ai := (it_lt h i x h0 h1 (ne i (by omega))).1
        have q := it_lt h m (itP P i x) ai.1 ai.2 (by rw [← w]; exact ne _ hj)
        rw [← w, ← y] at q
        omega
      rcases Nat.lt_trichotomy i j with q | q | q
      · exact absurd ee (key i j q (by omega))
      · exact q
      · exact absurd ee.symm (key j i q (by omega)))
  omega
/-- within, for good -/
def inW (P : Int → Int) (t x : Int) : Bool := wi P t 25 x
theorem inW_n {P : Int → Int} {O : Int} {R : Int → Nat} (h : RK P O R) (hO : O ≤ 24) {x : Int} (h0 : 0 ≤ x) (h1 : x < O) (t : Int) {m : Nat} (hm : R x + 1 < m) : wi P t m x = inW P t x := by
  have a := wi_st (t := t) _ x (it_24 h hO h0 h1) (max m 25) (by omega)
  have b := wi_st (t := t) _ x (it_rank h (R x + 1) x h0 h1 (by omega)) (max m 25) (by omega)
  have c := wi_st (t := t) _ x (it_rank h (R x + 1) x h0 h1 (by omega)) m hm
  show _ = wi P t (24 + 1) x
  rw [← a, b, c]
theorem inW_s {P : Int → Int} {O : Int} {R : Int → Nat} (h : RK P O R) (hO : O ≤ 24) {x : Int} (h0 : 0 ≤ x) (h1 : x < O) (t : Int) (ht : t ≠ -1) : inW P t x = (if x = t then true else if P x = -1 then false else inW P t (P x)) := by
  rw [← inW_n h hO h0 h1 t (m := R x + 3) (by omega)]
  show (if x = -1 then false else if x = t then true else wi P t (R x + 2) (P x)) = _
  rw [if_neg (by omega)]
  by_cases c : x = t
  · rw [if_pos c, if_pos c]
  · rw [if_neg c, if_neg c]
    rcases h x h0 h1 with z | z
    · rw [if_pos z, z]; rfl
    · rw [if_neg (by omega)]
      exact inW_n h hO z.1 z.2.1 t (by omega)
/-- the component's search -/
theorem k_isWithin {σ : ga_S} {R : Int → Nat} (h : RK (σ fW_placeAt 0) (σ fW_objects 0 0) R) (hO : σ fW_objects 0 0 ≤ 24) {t x : Int} (ht : t ≠ -1) (hx : 0 ≤ x ∧ x < σ fW_objects 0 0) {d : Nat} (hd : 1 ≤ d) : c_w_isWithin d σ x t = some (b2i (inW (σ fW_placeAt 0) t x), σ) := by
  obtain ⟨d, rfl⟩ : ∃ e, d = e + 1 := ⟨d - 1, by omega⟩
  have main : ∀ (n : Nat) (x : Int), 0 ≤ x → x < σ fW_objects 0 0 → R x < n → w_isWithin_2 d σ t x = some (b2i (inW (σ fW_placeAt 0) t x), σ) := by
    intro n
    induction n with
    | zero => intro x _ _ hn; omega
    | succ n ih =>
      intro x h0 h1 hn
      rw [e_w_isWithin_2, if_neg (by omega), inW_s h hO h0 h1 t ht]
      by_cases c : x = t
      · rw [if_pos c, if_pos c, e_w_isWithin_22, if_pos c]; rfl
      · rw [if_neg c, if_neg c, ck_ok _ (by omega)]
        rcases h x h0 h1 with z | z
        · rw [z, if_pos rfl, e_w_isWithin_2, if_pos rfl, e_w_isWithin_22, if_neg (fun y => ht y.symm)]; rfl
        · rw [if_neg (by omega)]
          exact ih _ z.1 z.2.1 (by omega)
  rw [e_w_isWithin]
  exact main (R x + 1) x hx.1 hx.2 (by omega)
/-- the model's search -/
theorem m_isWithin {σ τ : ga_S} {R : Int → Nat} (h : RK (σ fW_placeAt 0) (σ fW_objects 0 0) R) (hO : σ fW_objects 0 0 ≤ 24) (hp : ∀ o, 0 ≤ o → o < σ fW_objects 0 0 → (τ fM_way 0 o = 0 ∧ σ fW_placeAt 0 o = -1) ∨ (τ fM_way 0 o ≠ 0 ∧ τ fM_there 0 o = σ fW_placeAt 0 o)) {t x : Int} (hx : 0 ≤ x ∧ x < σ fW_objects 0 0) {d : Nat} (hd : 1 ≤ d) : c_m_isWithin d τ x t = some (b2i (inW (σ fW_placeAt 0) t x), τ) := by
  obtain ⟨d, rfl⟩ : ∃ e, d = e + 1 := ⟨d - 1, by omega⟩
  have main : ∀ (n : Nat) (x : Int), n ≤ 25 → (x = -1 ∨ (0 ≤ x ∧ x < σ fW_objects 0 0)) → m_isWithin_5 d τ t x (25 - n) = some (b2i (wi (σ fW_placeAt 0) t n x), τ) := by
    intro n
    induction n with
    | zero => intro x _ _; rw [e_m_isWithin_5, if_pos (by omega)]; rfl
    | succ n ih =>
      intro x hn hx
      rw [e_m_isWithin_5, if_neg (by omega)]
      show _ = some (b2i (if x = -1 then false else if x = t then true else wi (σ fW_placeAt 0) t n (σ fW_placeAt 0 x)), τ)
      by_cases c : x = -1
      · rw [if_pos c, if_pos c]; rfl
      · rw [if_neg c, if_neg c]
        by_cases c2 : x = t
        · rw [if_pos c2, if_pos c2]; rfl
        · have hx' := hx.resolve_left c
          rw [if_neg c2, if_neg c2, ck_ok _ (by omega)]
          have st : ∀ y, m_isWithin_43 d τ t (25 - ((n + 1 : Nat) : Int)) y = m_isWithin_5 d τ t y (25 - n) := by
            intro y
            rw [e_m_isWithin_43, w32_ok (by omega), show 25 - ((n + 1 : Nat) : Int) + 1 = 25 - n by omega]
          rcases hp x hx'.1 hx'.2 with z | z
          · rw [if_pos z.1, st, z.2]
            exact ih (-1) (by omega) (Or.inl rfl)
          · rw [if_neg z.1, ck_ok _ (by omega), st, z.2]
            refine ih _ (by omega) ?_
            rcases h x hx'.1 hx'.2 with y | y
            · exact Or.inl y
            · exact Or.inr ⟨y.1, y.2.1⟩
  rw [e_m_isWithin]
  exact main 25 x (Nat.le_refl _) (Or.inr hx)
theorem RWp_rk {σ τ : ga_S} (h : RWp σ τ) : ∃ R, RK (σ fW_placeAt 0) (σ fW_objects 0 0) R ∧ ∀ o, 0 ≤ o → o < σ fW_objects 0 0 → (τ fM_way 0 o = 0 ∧ σ fW_placeAt 0 o = -1) ∨ (τ fM_way 0 o ≠ 0 ∧ τ fM_there 0 o = σ fW_placeAt 0 o) := by
  obtain ⟨q1, R, q2⟩ := h
  refine ⟨R, fun x h0 h1 => ?_, fun o h0 h1 => ?_⟩
  · have w := q1 x h0 h1
    rcases w.2.2 with z | z
    · exact Or.inl z.2.1
    · exact Or.inr ⟨z.2.2.1, z.2.2.2, (q2 x h0 h1 z.1).1⟩
  · have w := q1 o h0 h1
    rw [w.1]
    rcases w.2.2 with z | z
    · exact Or.inl ⟨z.1, z.2.1⟩
    · exact Or.inr ⟨z.1, z.2.1⟩
/-- one object is put into, or upon, another -/
theorem RWp_put {σ τ σ' τ' : ga_S} (h : RWp σ τ) (hO : σ fW_objects 0 0 ≤ 24) {o p s : Int} (ho : 0 ≤ o ∧ o < σ fW_objects 0 0) (hp : 0 ≤ p ∧ p < σ fW_objects 0 0) (hs : 1 ≤ s ∧ s ≤ 5) (no : inW (σ fW_placeAt 0) o p = false) (e0 : σ' fW_objects = σ fW_objects) (e1 : ∀ i, σ' fW_placed 0 i = if i = o then s else σ fW_placed 0 i) (e2 : ∀ i, σ' fW_placeAt 0 i = if i = o then p else σ fW_placeAt 0 i) (e3 : ∀ i, τ' fM_way 0 i = if i = o then s else τ fM_way 0 i) (e4 : ∀ i, τ' fM_there 0 i = if i = o then p else τ fM_there 0 i) (e5 : σ' fW_kindOf = σ fW_kindOf) (e6 : σ' fW_parents = σ fW_parents) (th : isB (σ fW_parents 0) (σ fW_kindOf 0 o) 0 = true) : RWp σ' τ' := by
  obtain ⟨R, rk, _⟩ := RWp_rk h
  obtain ⟨q1, _, q9⟩ := h
  refine ⟨fun i z0 z1 => ?_, fun x => R x + (if inW (σ fW_placeAt 0) o x = true then R p + 1 else 0), fun i z0 z1 z2 => ⟨?_, ?_⟩⟩
  · rw [e0] at z1 ⊢
    rw [e1, e2, e3, e4]
    by_cases c : i = o
    · rw [if_pos c, if_pos c, if_pos c, if_pos c]
      exact ⟨rfl, by omega, Or.inr ⟨by omega, rfl, hp.1, hp.2⟩⟩
    · rw [if_neg c, if_neg c, if_neg c, if_neg c]; exact q1 i z0 z1
  · rw [e0] at z1
    show R (σ' fW_placeAt 0 i) + (if inW (σ fW_placeAt 0) o (σ' fW_placeAt 0 i) = true then R p + 1 else 0) < R i + (if inW (σ fW_placeAt 0) o i = true then R p + 1 else 0)
    rw [e2]
    rw [e1] at z2
    by_cases c : i = o
    · rw [if_pos c, no, if_neg (by decide), c]
      have : inW (σ fW_placeAt 0) o o = true := by rw [inW_s rk hO ho.1 ho.2 o (by omega), if_pos rfl]
      rw [this, if_pos rfl]
      omega
    · rw [if_neg c] at z2
      rw [if_neg c]
      have w := (q1 i z0 z1).2.2.resolve_left (fun y => z2 y.1)
      have r := (rk i z0 z1).resolve_left (by omega)
      have e := inW_s rk hO z0 z1 o (by omega)
      rw [if_neg c, if_neg (by omega)] at e
      rw [e]
      by_cases b : inW (σ fW_placeAt 0) o (σ fW_placeAt 0 i) = true
      · rw [if_pos b]; omega
      · rw [if_neg b]; omega
  · rw [e0] at z1
    rw [e5, e6]
    rw [e1] at z2
    by_cases c : i = o
    · rw [c]; exact th
    · rw [if_neg c] at z2
      exact (q9 i z0 z1 z2).2

/-! the model's world as at first -/
theorem mb_k {d : Nat} {τ : ga_S} {k p s1 s2 : Int} (h : (k = 0 ∧ p = -1 ∧ s1 = 0 ∧ s2 = 1) ∨ (k = 1 ∧ p = -1 ∧ s1 = 2 ∧ s2 = 3) ∨ (k = 2 ∧ p = 0 ∧ s1 = 4 ∧ s2 = 5) ∨ (k = 3 ∧ p = 0 ∧ s1 = 6 ∧ s2 = 7) ∨ (k = 4 ∧ p = 0 ∧ s1 = 8 ∧ s2 = 9)) {a b c : ga_S} {x y z : Int} (h1 : c_m_addKind d τ p = some (x, a)) (h2 : c_m_tellWord d a 0 k s1 = some (y, b)) (h3 : c_m_tellWord d b 1 k s2 = some (z, c)) : m_begin_87 d τ k = m_begin_87 d c (k + 1) := by
  have fin : ∀ v, m_begin_208 d b v s2 k 1 = m_begin_87 d c (w32 (v + 1)) := fun v => by
    rw [e_m_begin_208, h3, Option.bind_some]
  rcases h with ⟨rfl, rfl, rfl, rfl⟩ | ⟨rfl, rfl, rfl, rfl⟩ | ⟨rfl, rfl, rfl, rfl⟩ | ⟨rfl, rfl, rfl, rfl⟩ | ⟨rfl, rfl, rfl, rfl⟩
  · rw [e_m_begin_87, if_pos (by decide), if_pos (by decide), e_m_begin_103, h1, Option.bind_some, if_pos rfl, e_m_begin_156, h2, Option.bind_some, if_pos rfl, fin]; rfl
  · rw [e_m_begin_87, if_pos (by decide), if_pos (by decide), e_m_begin_103, h1, Option.bind_some, if_neg (by decide), if_pos rfl, e_m_begin_156, h2, Option.bind_some, if_neg (by decide), if_pos rfl, fin]; rfl
  · rw [e_m_begin_87, if_pos (by decide), if_neg (by decide), e_m_begin_103, h1, Option.bind_some, if_neg (by decide), if_neg (by decide), if_pos rfl, e_m_begin_156, h2, Option.bind_some, if_neg (by decide), if_neg (by decide), if_pos rfl, fin]; rfl
  · rw [e_m_begin_87, if_pos (by decide), if_neg (by decide), e_m_begin_103, h1, Option.bind_some, if_neg (by decide), if_neg (by decide), if_neg (by decide), if_pos rfl, e_m_begin_156, h2, Option.bind_some, if_neg (by decide), if_neg (by decide), if_neg (by decide), if_pos rfl, fin]; rfl
  · rw [e_m_begin_87, if_pos (by decide), if_neg (by decide), e_m_begin_103, h1, Option.bind_some, if_neg (by decide), if_neg (by decide), if_neg (by decide), if_neg (by decide), e_m_begin_156, h2, Option.bind_some, if_neg (by decide), if_neg (by decide), if_neg (by decide), if_neg (by decide), fin]; rfl
theorem mb_a {d : Nat} {τ : ga_S} {k p s1 : Int} (h : (k = 0 ∧ p = -1 ∧ s1 = 16) ∨ (k = 1 ∧ p = 0 ∧ s1 = 17) ∨ (k = 2 ∧ p = 0 ∧ s1 = 18) ∨ (k = 3 ∧ p = 0 ∧ s1 = 19) ∨ (k = 4 ∧ p = -2 ∧ s1 = 20)) {a b : ga_S} {x y : Int} (h1 : c_m_addAction d τ p = some (x, a)) (h2 : c_m_tellWord d a 11 k s1 = some (y, b)) : m_begin_316 d τ k = m_begin_316 d b (k + 1) := by
  have fin : ∀ v, m_begin_395 d a v s1 k 11 = m_begin_316 d b (w32 (v + 1)) := fun v => by
    rw [e_m_begin_395, h2, Option.bind_some]
  rcases h with ⟨rfl, rfl, rfl⟩ | ⟨rfl, rfl, rfl⟩ | ⟨rfl, rfl, rfl⟩ | ⟨rfl, rfl, rfl⟩ | ⟨rfl, rfl, rfl⟩
  · rw [e_m_begin_316, if_pos (by decide), if_pos rfl, e_m_begin_341, h1, Option.bind_some, if_pos rfl, fin]; rfl
  · rw [e_m_begin_316, if_pos (by decide), if_neg (by decide), if_neg (by decide), e_m_begin_341, h1, Option.bind_some, if_neg (by decide), if_pos rfl, fin]; rfl
  · rw [e_m_begin_316, if_pos (by decide), if_neg (by decide), if_neg (by decide), e_m_begin_341, h1, Option.bind_some, if_neg (by decide), if_neg (by decide), if_pos rfl, fin]; rfl
  · rw [e_m_begin_316, if_pos (by decide), if_neg (by decide), if_neg (by decide), e_m_begin_341, h1, Option.bind_some, if_neg (by decide), if_neg (by decide), if_neg (by decide), if_pos rfl, fin]; rfl
  · rw [e_m_begin_316, if_pos (by decide), if_neg (by decide), if_pos rfl, e_m_begin_341, h1, Option.bind_some, if_neg (by decide), if_neg (by decide), if_neg (by decide), if_neg (by decide), fin]; rfl
def akX : List Nat := akM ++ lexL
/-- one kind -/
theorem m_fk {τ : ga_S} {E : List (List Int × Int × Int)} {k p s1 s2 k1 : Int} {w1 w2 : List Int} (h : (k = 0 ∧ p = -1 ∧ s1 = 0 ∧ s2 = 1) ∨ (k = 1 ∧ p = -1 ∧ s1 = 2 ∧ s2 = 3) ∨ (k = 2 ∧ p = 0 ∧ s1 = 4 ∧ s2 = 5) ∨ (k = 3 ∧ p = 0 ∧ s1 = 6 ∧ s2 = 7) ∨ (k = 4 ∧ p = 0 ∧ s1 = 8 ∧ s2 = 9)) (A : ML τ E) (hE : E.length < 200) (l1 : lit s1 w1) (l2 : lit s2 w2) (hk : τ fM_kinds 0 0 = k) (h1 : k + 1 = k1) (hz : ∀ i, 0 ≤ i → i < 12 * k → τ fM_kindHas 0 i = 0 ∧ τ fM_kindTold 0 i = 0) (hy : ∀ i, 0 ≤ i → i < 24 * k → τ fM_kindIs 0 i = 0) {d : Nat} (hd : 3 ≤ d) : ∃ τ', m_begin_87 d τ k = m_begin_87 d τ' k1 ∧ fr akX τ τ' ∧ ML τ' (E ++ [(w1, 0, k)] ++ [(w2, 11, k)]) ∧ τ' fM_kinds 0 0 = k1 ∧ (∀ i, τ' fM_above 0 i = if i = k then p else τ fM_above 0 i) ∧ (∀ i, 0 ≤ i → i < 12 * k1 → τ' fM_kindHas 0 i = 0 ∧ τ' fM_kindTold 0 i = 0) ∧ (∀ i, 0 ≤ i → i < 24 * k1 → τ' fM_kindIs 0 i = 0) := by
  have hr : 0 ≤ k ∧ k < 5 := by omega
  obtain ⟨a, a1, a2, a3, a4, a5, a6, a7⟩ := m_addKind (p := p) hk (by omega) (d := d) (by omega)
  obtain ⟨b, b1, b2, b3⟩ := m_tell1 (s := 0) (n := k) (ms := 0) (mi := k) (ML_f A a2 (by decide)) (by omega) l1 rfl (by unfold iM; rw [if_neg (by omega)]) (d := d) (by omega)
  obtain ⟨c, c1, c2, c3⟩ := m_tell1 (s := 11) (n := k) (ms := 1) (mi := k) b3 (by rw [List.length_append]; show E.length + 1 < 290; omega) l2 (by unfold sM; rw [if_neg (by decide), if_neg (by decide), if_neg (by decide), if_neg (by decide), if_neg (by decide), if_neg (by decide), if_neg (by decide), if_neg (by decide), if_neg (by decide), if_neg (by decide), if_pos rfl, if_pos (by omega)]) (by unfold iM; rw [if_neg (by omega)]) (d := d) (by omega)
  have f : fr lexL a c := fr_trans b2 c2
  refine ⟨c, by rw [mb_k h a1 b1 c1, h1], fr_trans (fr_sub a2 (by decide)) (fr_sub f (by decide)), c3, by rw [f _ (by decide), a3, h1], fun i => by rw [f _ (by decide), a4], fun i i0 i1 => ?_, fun i i0 i1 => ?_⟩
  · rw [f _ (by decide), f _ (by decide), a5, a6]
    by_cases z : 12 * k ≤ i ∧ i < 12 * k + 12
    · rw [if_pos z, if_pos z]; exact ⟨rfl, rfl⟩
    · rw [if_neg z, if_neg z]; exact hz i i0 (by omega)
  · rw [f _ (by decide), a7]
    by_cases z : 24 * k ≤ i ∧ i < 24 * k + 24
    · rw [if_pos z]
    · rw [if_neg z]; exact hy i i0 (by omega)
/-- the kinds -/
theorem mc_A {τ : ga_S} (A : ML τ []) (h0 : τ fM_kinds 0 0 = 0) {d : Nat} (hd : 3 ≤ d) : ∃ τ', m_begin_87 d τ 0 = m_begin_87 d τ' 5 ∧ fr akX τ τ' ∧ ML τ' EA ∧ (τ' fM_kinds 0 0 = 5 ∧ τ' fM_above 0 0 = -1 ∧ τ' fM_above 0 1 = -1 ∧ τ' fM_above 0 2 = 0 ∧ τ' fM_above 0 3 = 0 ∧ τ' fM_above 0 4 = 0) ∧ (∀ i, 0 ≤ i → i < 60 → τ' fM_kindHas 0 i = 0 ∧ τ' fM_kindTold 0 i = 0) ∧ (∀ i, 0 ≤ i → i < 120 → τ' fM_kindIs 0 i = 0) := by
  obtain ⟨σ1, a1, a2, a3, a4, a5, a6, a7⟩ := m_fk (Or.inl ⟨rfl, rfl, rfl, rfl⟩) A (by decide) lt0 lt1 h0 (show (0 : Int) + 1 = 1 by decide) (fun i x y => by omega) (fun i x y => by omega) hd
  obtain ⟨σ2, b1, b2, b3, b4, b5, b6, b7⟩ := m_fk (Or.inr (Or.inl ⟨rfl, rfl, rfl, rfl⟩)) a3 (by decide) lt2 lt3 a4 (show (1 : Int) + 1 = 2 by decide) a6 a7 hd
  obtain ⟨σ3, c1, c2, c3, c4, c5, c6, c7⟩ := m_fk (Or.inr (Or.inr (Or.inl ⟨rfl, rfl, rfl, rfl⟩))) b3 (by decide) lt4 lt5 b4 (show (2 : Int) + 1 = 3 by decide) b6 b7 hd
  obtain ⟨σ4, d1, d2, d3, d4, d5, d6, d7⟩ := m_fk (Or.inr (Or.inr (Or.inr (Or.inl ⟨rfl, rfl, rfl, rfl⟩)))) c3 (by decide) lt6 lt7 c4 (show (3 : Int) + 1 = 4 by decide) c6 c7 hd
  obtain ⟨σ5, e1, e2, e3, e4, e5, e6, e7⟩ := m_fk (Or.inr (Or.inr (Or.inr (Or.inr ⟨rfl, rfl, rfl, rfl⟩)))) d3 (by decide) lt8 lt9 d4 (show (4 : Int) + 1 = 5 by decide) d6 d7 hd
  refine ⟨σ5, a1.trans (b1.trans (c1.trans (d1.trans e1))), fr_trans a2 (fr_trans b2 (fr_trans c2 (fr_trans d2 e2))), e3, ⟨e4, ?_, ?_, ?_, ?_, ?_⟩, fun i x y => e6 i x (by omega), fun i x y => e7 i x (by omega)⟩
  · rw [e5, if_neg (by decide), d5, if_neg (by decide), c5, if_neg (by decide), b5, if_neg (by decide), a5, if_pos rfl]
  · rw [e5, if_neg (by decide), d5, if_neg (by decide), c5, if_neg (by decide), b5, if_pos rfl]
  · rw [e5, if_neg (by decide), d5, if_neg (by decide), c5, if_pos rfl]
  · rw [e5, if_neg (by decide), d5, if_pos rfl]
  · rw [e5, if_pos rfl]
def aaX : List Nat := fM_actions :: fM_actionKind :: lexL
theorem m_ac {τ : ga_S} {E : List (List Int × Int × Int)} {k p s1 k1 : Int} {w1 : List Int} (h : (k = 0 ∧ p = -1 ∧ s1 = 16) ∨ (k = 1 ∧ p = 0 ∧ s1 = 17) ∨ (k = 2 ∧ p = 0 ∧ s1 = 18) ∨ (k = 3 ∧ p = 0 ∧ s1 = 19) ∨ (k = 4 ∧ p = -2 ∧ s1 = 20)) (A : ML τ E) (hE : E.length < 200) (l1 : lit s1 w1) (hk : τ fM_actions 0 0 = k) (h1 : k + 1 = k1) {d : Nat} (hd : 3 ≤ d) : ∃ τ', m_begin_316 d τ k = m_begin_316 d τ' k1 ∧ fr aaX τ τ' ∧ ML τ' (E ++ [(w1, 8, k)]) ∧ τ' fM_actions 0 0 = k1 ∧ (∀ i, τ' fM_actionKind 0 i = if i = k then p else τ fM_actionKind 0 i) := by
  have hr : 0 ≤ k ∧ k < 5 := by omega
  obtain ⟨a, ea⟩ : ∃ x, x = ga_up (ga_up τ fM_actionKind 0 k p) fM_actions 0 0 k1 := ⟨_, rfl⟩
  have a1 : c_m_addAction d τ p = some (k, a) := by
    obtain ⟨d, rfl⟩ : ∃ e, d = e + 1 := ⟨d - 1, by omega⟩
    rw [e_m_addAction, hk, ck_ok _ (by omega), w32_ok (x := k + 1) (by omega), w32_ok (by omega), show k + 1 - 1 = k by omega, h1, ← ea]
  have a2 : fr [fM_actionKind, fM_actions] τ a := by rw [ea]; exact fr_trans (fr_u (by decide)) (fr_u (by decide))
  obtain ⟨b, b1, b2, b3⟩ := m_tell1 (s := 8) (n := k) (ms := 11) (mi := k) (ML_f A a2 (by decide)) (by omega) l1 rfl (by unfold iM; rw [if_neg (by omega)]) (d := d) (by omega)
  refine ⟨b, by rw [mb_a h a1 b1, h1], fr_trans (fr_sub a2 (by decide)) (fr_sub b2 (by decide)), b3, by rw [b2 _ (by decide), ea, up_eq], fun i => by rw [b2 _ (by decide), ea, up_F (by decide), up_at]⟩
/-- the actions -/
theorem mc_F {τ : ga_S} (A : ML τ EP) (h0 : τ fM_actions 0 0 = 0) {d : Nat} (hd : 3 ≤ d) : ∃ τ', m_begin_316 d τ 0 = m_begin_316 d τ' 5 ∧ fr aaX τ τ' ∧ ML τ' EC ∧ (τ' fM_actions 0 0 = 5 ∧ τ' fM_actionKind 0 0 = -1 ∧ τ' fM_actionKind 0 1 = 0 ∧ τ' fM_actionKind 0 2 = 0 ∧ τ' fM_actionKind 0 3 = 0 ∧ τ' fM_actionKind 0 4 = -2) := by
  obtain ⟨σ1, a1, a2, a3, a4, a5⟩ := m_ac (Or.inl ⟨rfl, rfl, rfl⟩) A (by decide) lt16 h0 (show (0 : Int) + 1 = 1 by decide) hd
  obtain ⟨σ2, b1, b2, b3, b4, b5⟩ := m_ac (Or.inr (Or.inl ⟨rfl, rfl, rfl⟩)) a3 (by decide) lt17 a4 (show (1 : Int) + 1 = 2 by decide) hd
  obtain ⟨σ3, c1, c2, c3, c4, c5⟩ := m_ac (Or.inr (Or.inr (Or.inl ⟨rfl, rfl, rfl⟩))) b3 (by decide) lt18 b4 (show (2 : Int) + 1 = 3 by decide) hd
  obtain ⟨σ4, d1, d2, d3, d4, d5⟩ := m_ac (Or.inr (Or.inr (Or.inr (Or.inl ⟨rfl, rfl, rfl⟩)))) c3 (by decide) lt19 c4 (show (3 : Int) + 1 = 4 by decide) hd
  obtain ⟨σ5, e1, e2, e3, e4, e5⟩ := m_ac (Or.inr (Or.inr (Or.inr (Or.inr ⟨rfl, rfl, rfl⟩)))) d3 (by decide) lt20 d4 (show (4 : Int) + 1 = 5 by decide) hd
  refine ⟨σ5, a1.trans (b1.trans (c1.trans (d1.trans e1))), fr_trans a2 (fr_trans b2 (fr_trans c2 (fr_trans d2 e2))), e3, ⟨e4, ?_, ?_, ?_, ?_, ?_⟩⟩
  · rw [e5, if_neg (by decide), d5, if_neg (by decide), c5, if_neg (by decide), b5, if_neg (by decide), a5, if_pos rfl]
  · rw [e5, if_neg (by decide), d5, if_neg (by decide), c5, if_neg (by decide), b5, if_pos rfl]
  · rw [e5, if_neg (by decide), d5, if_neg (by decide), c5, if_pos rfl]
  · rw [e5, if_neg (by decide), d5, if_pos rfl]
  · rw [e5, if_pos rfl]
theorem m_di {τ : ga_S} {E : List (List Int × Int × Int)} {k s1 k1 : Int} {w1 : List Int} (h : (k = 0 ∧ s1 = 32) ∨ (k = 1 ∧ s1 = 33) ∨ (k = 2 ∧ s1 = 34) ∨ (k = 3 ∧ s1 = 35) ∨ (k = 4 ∧ s1 = 36) ∨ (k = 5 ∧ s1 = 37)) (A : ML τ E) (hE : E.length < 200) (l1 : lit s1 w1) (h1 : k + 1 = k1) {d : Nat} (hd : 3 ≤ d) : ∃ τ', m_begin_406 d τ k = m_begin_406 d τ' k1 ∧ fr lexL τ τ' ∧ ML τ' (E ++ [(w1, 9, k)]) := by
  have hr : 0 ≤ k ∧ k < 6 := by omega
  have dd : c_m_direction d τ k = some (s1, τ) := by
    obtain ⟨d, rfl⟩ : ∃ e, d = e + 1 := ⟨d - 1, by omega⟩
    rw [e_m_direction]
    rcases h with ⟨rfl, rfl⟩ | ⟨rfl, rfl⟩ | ⟨rfl, rfl⟩ | ⟨rfl, rfl⟩ | ⟨rfl, rfl⟩ | ⟨rfl, rfl⟩ <;> rfl
  obtain ⟨b, b1, b2, b3⟩ := m_tell1 (s := 9) (n := k) (ms := 12) (mi := k) A (by omega) l1 rfl (by unfold iM; rw [if_neg (by omega)]) (d := d) (by omega)
  refine ⟨b, ?_, b2, b3⟩
  rw [e_m_begin_406, if_pos hr.2, dd, Option.bind_some, b1, Option.bind_some, w32_ok (by omega), h1]
/-- the directions -/
theorem mc_G {τ : ga_S} (A : ML τ EC) {d : Nat} (hd : 3 ≤ d) : ∃ τ', m_begin_406 d τ 0 = m_begin_406 d τ' 6 ∧ fr lexL τ τ' ∧ ML τ' EB := by
  obtain ⟨σ1, a1, a2, a3⟩ := m_di (Or.inl ⟨rfl, rfl⟩) A (by decide) lr0 (show (0 : Int) + 1 = 1 by decide) hd
  obtain ⟨σ2, b1, b2, b3⟩ := m_di (Or.inr (Or.inl ⟨rfl, rfl⟩)) a3 (by decide) lr1 (show (1 : Int) + 1 = 2 by decide) hd
  obtain ⟨σ3, c1, c2, c3⟩ := m_di (Or.inr (Or.inr (Or.inl ⟨rfl, rfl⟩))) b3 (by decide) lr2 (show (2 : Int) + 1 = 3 by decide) hd
  obtain ⟨σ4, d1, d2, d3⟩ := m_di (Or.inr (Or.inr (Or.inr (Or.inl ⟨rfl, rfl⟩)))) c3 (by decide) lr3 (show (3 : Int) + 1 = 4 by decide) hd
  obtain ⟨σ5, e1, e2, e3⟩ := m_di (Or.inr (Or.inr (Or.inr (Or.inr (Or.inl ⟨rfl, rfl⟩))))) d3 (by decide) lr4 (show (4 : Int) + 1 = 5 by decide) hd
  obtain ⟨σ6, f1, f2, f3⟩ := m_di (Or.inr (Or.inr (Or.inr (Or.inr (Or.inr ⟨rfl, rfl⟩))))) e3 (by decide) lr5 (show (5 : Int) + 1 = 6 by decide) hd
  exact ⟨σ6, a1.trans (b1.trans (c1.trans (d1.trans (e1.trans f1)))), fr_trans a2 (fr_trans b2 (fr_trans c2 (fr_trans d2 (fr_trans e2 f2)))), f3⟩
theorem m_be_l (d : Nat) : ∀ (m k : Nat), k + m = 3456 → ∀ τ : ga_S, ∃ τ', m_begin_496 d τ k = some (0, τ') ∧ fr [fM_related] τ τ' ∧ ∀ i, τ' fM_related 0 i = if (k : Int) ≤ i ∧ i < 3456 then 0 else τ fM_related 0 i := by
  intro m
  induction m with
  | zero =>
    intro k hk τ
    refine ⟨τ, ?_, fr_refl _ _, fun i => by rw [if_neg (by omega)]⟩
    rw [e_m_begin_496, if_neg (by omega)]
  | succ m ih =>
    intro k hk τ
    obtain ⟨τ', a1, a2, a3⟩ := ih (k + 1) (by omega) (ga_up τ fM_related 0 k 0)
    refine ⟨τ', ?_, fr_trans (fr_u (by decide)) a2, fun i => ?_⟩
    · rw [e_m_begin_496, if_pos (by omega), ck_ok _ (by omega), w32_ok (by omega), show (k : Int) + 1 = ((k + 1 : Nat) : Int) by push_cast; rfl, a1]
    · rw [a3, up_at]
      by_cases c : i = (k : Int)
      · rw [if_neg (by push_cast; omega), if_pos c, if_pos (by omega)]
      · by_cases c2 : ((k + 1 : Nat) : Int) ≤ i ∧ i < 3456
        · rw [if_pos c2, if_pos (by push_cast at c2; omega)]
        · rw [if_neg c2, if_neg c, if_neg (by push_cast at c2; omega)]
/-- the commands, and no relations -/
theorem mc_H {τ : ga_S} (h0 : τ fM_commands 0 0 = 0) {d : Nat} (hd : 3 ≤ d) : ∃ τ', m_begin_406 d τ 6 = some (0, τ') ∧ fr (fM_related :: cwM) τ τ' ∧ τ' fM_commands 0 0 = 7 ∧ (CRM τ' 0 0 (-1) wd22 ∧ CRM τ' 1 1 0 wd23 ∧ CRM τ' 2 1 0 wd24 ∧ CRM τ' 3 2 0 wd25 ∧ CRM τ' 4 3 0 wd26 ∧ CRM τ' 5 4 (-2) wd27 ∧ CRM τ' 6 4 (-2) []) ∧ ∀ i, 0 ≤ i → i < 3456 → τ' fM_related 0 i = 0 := by
  obtain ⟨σ1, a1, a2, a3, a5, a6⟩ := m_fc (a := 0) (k := -1) lt22.1 lt22.2.1 (by decide) h0 (by decide) (show (0 : Int) + 1 = 1 by decide) hd
  obtain ⟨σ2, b1, b2, b3, b5, b6⟩ := m_fc (a := 1) (k := 0) lt23.1 lt23.2.1 (by decide) a3 (by decide) (show (1 : Int) + 1 = 2 by decide) hd
  obtain ⟨σ3, c1, c2, c3, c5, c6⟩ := m_fc (a := 1) (k := 0) lt24.1 lt24.2.1 (by decide) b3 (by decide) (show (2 : Int) + 1 = 3 by decide) hd
  obtain ⟨σ4, d1, d2, d3, d5, d6⟩ := m_fc (a := 2) (k := 0) lt25.1 lt25.2.1 (by decide) c3 (by decide) (show (3 : Int) + 1 = 4 by decide) hd
  obtain ⟨σ5, e1, e2, e3, e5, e6⟩ := m_fc (a := 3) (k := 0) lt26.1 lt26.2.1 (by decide) d3 (by decide) (show (4 : Int) + 1 = 5 by decide) hd
  obtain ⟨σ6, f1, f2, f3, f5, f6⟩ := m_fc (a := 4) (k := -2) lt27.1 lt27.2.1 (by decide) e3 (by decide) (show (5 : Int) + 1 = 6 by decide) hd
  obtain ⟨σ7, g1, g2, g3, g5, g6⟩ := m_fc (a := 4) (k := -2) l28 (fun c hc => by cases hc) (by decide) f3 (by decide) (show (6 : Int) + 1 = 7 by decide) hd
  obtain ⟨σ8, i1, i2, i3⟩ := m_be_l d 3456 0 (by decide) σ7
  have cr : ∀ c a k w, CRM σ7 c a k w → CRM σ8 c a k w := fun c a k w h => by
    unfold CRM at h ⊢
    rw [i2 fM_commandAction (by decide), i2 fM_commandKind (by decide), i2 fM_commandSize (by decide), i2 fM_commandWord (by decide)]
    exact h
  refine ⟨σ8, ?_, fr_trans (fr_sub (fr_trans a2 (fr_trans b2 (fr_trans c2 (fr_trans d2 (fr_trans e2 (fr_trans f2 g2)))))) (by decide)) (fr_sub i2 (by decide)), by rw [i2 _ (by decide)]; exact g3, ⟨cr _ _ _ _ ?_, cr _ _ _ _ ?_, cr _ _ _ _ ?_, cr _ _ _ _ ?_, cr _ _ _ _ ?_, cr _ _ _ _ ?_, cr _ _ _ _ g5⟩, fun i x y => by rw [i3, if_pos ⟨x, y⟩]⟩
  · rw [e_m_begin_406, if_neg (by decide), a1, Option.bind_some, b1, Option.bind_some, c1, Option.bind_some, d1, Option.bind_some, e1, Option.bind_some, f1, Option.bind_some, g1, Option.bind_some]
    exact i1
  · exact g6 _ _ _ _ (by decide) (f6 _ _ _ _ (by decide) (e6 _ _ _ _ (by decide) (d6 _ _ _ _ (by decide) (c6 _ _ _ _ (by decide) (b6 _ _ _ _ (by decide) a5)))))
  · exact g6 _ _ _ _ (by decide) (f6 _ _ _ _ (by decide) (e6 _ _ _ _ (by decide) (d6 _ _ _ _ (by decide) (c6 _ _ _ _ (by decide) b5))))
  · exact g6 _ _ _ _ (by decide) (f6 _ _ _ _ (by decide) (e6 _ _ _ _ (by decide) (d6 _ _ _ _ (by decide) c5)))
  · exact g6 _ _ _ _ (by decide) (f6 _ _ _ _ (by decide) (e6 _ _ _ _ (by decide) d5))
  · exact g6 _ _ _ _ (by decide) (f6 _ _ _ _ (by decide) e5)
  · exact g6 _ _ _ _ (by decide) f5

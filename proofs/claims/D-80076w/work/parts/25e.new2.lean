/-! names that must be new: the model -/
section
variable {σ0 τ0 : ga_S} {f : Int} {N : Nat}
def RU (σ0 τ0 : ga_S) (f : Int) (N : Nat) (r a b : Int) : Prop := (0 ≤ r ∧ r < 2600) ∧ τ0 fM_runFrom 0 r = f + a ∧ τ0 fM_runSize 0 r = b - a ∧ frB σ0 N a b
theorem RU_of (E : ENV σ0 τ0 f N) {r a b : Int} (h : rnR σ0 τ0 f r a b) (hm : τ0 fM_runs 0 0 ≤ 2600) : RU σ0 τ0 f N r a b := by
  have B := rnR_B E h
  exact ⟨⟨h.1, by have := h.2.1; omega⟩, h.2.2.1, h.2.2.2.1, B⟩
def wR (σ0 τ0 : ga_S) (f r : Int) : List (List Int) := wsT σ0 0 (τ0 fM_runFrom 0 r - f) (τ0 fM_runFrom 0 r - f + τ0 fM_runSize 0 r)
theorem wR_RU {r a b : Int} (h : RU σ0 τ0 f N r a b) : wR σ0 τ0 f r = wsT σ0 0 a b := by
  unfold wR
  rw [h.2.1, h.2.2.1, show f + a - f = a by omega, show a + (b - a) = b by omega]
theorem m_isAlike {τ : ga_S} (E : E0 σ0 τ0 f N) (K : KM τ0 τ) {r s a b c e : Int} (hr : RU σ0 τ0 f N r a b) (hs : RU σ0 τ0 f N s c e) {d : Nat} (hd : 1 ≤ d) : c_m_isAlike d τ r s = some (b2i (decide (wsT σ0 0 a b = wsT σ0 0 c e)), τ) := by
  obtain ⟨d, rfl⟩ : ∃ e, d = e + 1 := ⟨d - 1, by omega⟩
  obtain ⟨r0, r1, r2, a1, a2, a3, a4⟩ := hr
  obtain ⟨s0, s1, s2, c1, c2, c3, c4⟩ := hs
  have hf := E.1.1
  have hN := E.1.2.1
  have x1 : τ fM_runFrom = τ0 fM_runFrom := K _ (by decide)
  have x2 : τ fM_runSize = τ0 fM_runSize := K _ (by decide)
  have x3 : τ fM_word = τ0 fM_word := K _ (by decide)
  have L0 : ∀ k, 0 ≤ k → k ≤ b - a → m_isAlike_24 d τ r s 0 k = some (0, τ) := by
    intro k h0 h1
    rw [e_m_isAlike_24, ck_ok _ r0, x2, r2]
    by_cases q : k < b - a
    · rw [if_pos q, if_pos rfl, z1_ok _ (by omega)]
    · rw [if_neg q, z1_ok _ (by omega)]
  rw [e_m_isAlike, ck_ok _ r0, ck_ok _ s0, x2, r2, s2]
  by_cases q : b - a = e - c
  · have L : ∀ k, 0 ≤ k → k ≤ b - a → m_isAlike_24 d τ r s 1 k = some (b2i ((rg k (b - a)).all (fun i => decide (wT σ0 0 (a + i) = wT σ0 0 (c + i)))), τ) := by
      refine rg_ind (n := b - a) ?_ ?_
      · intro k h h0 h1
        rw [e_m_isAlike_24, ck_ok _ r0, x2, r2, if_neg (by omega), z1_ok _ (by omega), rg_all0 h]; rfl
      · intro k h ih h0 h1
        have ta := E.2.1.2.2.2.1 (a + k) (by omega) (by omega) (a4 _ (by omega) (by omega))
        have tc := E.2.1.2.2.2.1 (c + k) (by omega) (by omega) (c4 _ (by omega) (by omega))
        rw [e_m_isAlike_24, ck_ok _ r0, x2, r2, if_pos h, if_neg (by decide), ck_ok _ r0, x1, r1, s1, w32_ok (x := f + a + k) (by omega), ck_ok _ (by omega), ck_ok _ s0, w32_ok (x := f + c + k) (by omega), ck_ok _ (by omega), x3, show f + a + k = f + (a + k) by omega, show f + c + k = f + (c + k) by omega, ta.2.2.2, tc.2.2.2]
        by_cases w : wT σ0 0 (a + k) = wT σ0 0 (c + k)
        · rw [if_pos (lcmp_0.mpr (by rw [w])), e_m_isAlike_76, w32_ok (by omega), ih (by omega) (by omega), rg_all h, decide_eq_true w, Bool.true_and]
        · rw [if_neg (fun z => w (pack_inj ta.1 tc.1 (lcmp_0.mp z))), e_m_isAlike_76, w32_ok (by omega), L0 (k + 1) (by omega) (by omega), rg_all h, decide_eq_false w, Bool.false_and]; rfl
    rw [if_pos q, e_m_isAlike_20, L 0 (Int.le_refl _) (by omega)]
    by_cases g : wsT σ0 0 a b = wsT σ0 0 c e
    · rw [decide_eq_true g, rg_allI.mpr (fun i h1 h2 => decide_eq_true (((wsT_eq a2 c2).mp g).2 i h1 h2))]
    · rw [decide_eq_false g, b_false (fun z => g ((wsT_eq a2 c2).mpr ⟨q, fun i h1 h2 => of_decide_eq_true (rg_allI.mp z i h1 h2)⟩))]
  · rw [if_neg q, e_m_isAlike_20, L0 0 (Int.le_refl _) (by omega), decide_eq_false (fun g => q ((wsT_eq a2 c2).mp g).1)]
    rfl
def nwM (σ0 τ0 : ga_S) (f : Int) (τ : ga_S) : List (List (List Int)) := (rg 0 (τ fM_news 0 0)).map (fun k => wR σ0 τ0 f (τ fM_newRun 0 k))
def nwQ (σ0 τ0 : ga_S) (f : Int) (N : Nat) (τ : ga_S) : Prop := 0 ≤ τ fM_news 0 0 ∧ ∀ k, 0 ≤ k → k < τ fM_news 0 0 → ∃ a b, RU σ0 τ0 f N (τ fM_newRun 0 k) a b
theorem mm_isNew_38 {τ : ga_S} (E : E0 σ0 τ0 f N) (K : KM τ0 τ) (hO : nwQ σ0 τ0 f N τ) (hn : τ fM_news 0 0 ≤ 2600) {r a b : Int} (hr : RU σ0 τ0 f N r a b) {d : Nat} (hd : 1 ≤ d) : ∀ k, 0 ≤ k → ∀ t : Bool, m_isNew_38 d τ r (b2i t) k = some (b2i (t && !(rg k (τ fM_news 0 0)).any (fun i => decide (wR σ0 τ0 f (τ fM_newRun 0 i) = wsT σ0 0 a b))), τ) := by
  refine rg_ind (n := τ fM_news 0 0) ?_ ?_
  · intro k g h0 t
    rw [e_m_isNew_38, if_neg (by omega), z1_ok _ (b2i_01 t), rg_n g]
    simp
  · intro k g ih h0 t
    rw [e_m_isNew_38, if_pos g]
    cases t with
    | false => rw [if_pos b2i_f, z1_ok _ (b2i_01 _)]; rfl
    | true =>
      obtain ⟨c, e, hk⟩ := hO.2 k h0 g
      rw [if_neg b2i_n, ck_ok _ (by omega), m_isAlike E K hr hk hd]
      simp only [Option.bind_some]
      rw [rg_any g, wR_RU hk, Bool.true_and]
      by_cases q : wsT σ0 0 c e = wsT σ0 0 a b
      · rw [decide_eq_true q.symm, if_neg b2i_n, e_m_isNew_69, w32_ok (by omega)]
        have := ih (by omega) false
        rw [b2i_f, Bool.false_and] at this
        rw [this, decide_eq_true q, Bool.true_or]; rfl
      · rw [decide_eq_false (fun z => q z.symm), if_pos b2i_f, e_m_isNew_69, w32_ok (by omega)]
        have := ih (by omega) true
        rw [b2i_t, Bool.true_and] at this
        rw [this, decide_eq_false q, Bool.false_or]
theorem m_isNew {τ : ga_S} (E : E0 σ0 τ0 f N) (K : KM τ0 τ) (hO : nwQ σ0 τ0 f N τ) (hn : τ fM_news 0 0 ≤ 2600) {r a b : Int} (hr : RU σ0 τ0 f N r a b) {d : Nat} (hd : 3 ≤ d) : c_m_isNew d τ r = some (b2i (nB σ0 (wsT σ0 0 a b) (nwM σ0 τ0 f τ)), τ) := by
  obtain ⟨d, rfl⟩ : ∃ e, d = e + 1 := ⟨d - 1, by omega⟩
  have hr' := hr
  obtain ⟨r0, r1, r2, hb⟩ := hr'
  have l := wsT_len (σ := σ0) hb.2.1
  have x1 : τ fM_runFrom = τ0 fM_runFrom := K _ (by decide)
  have x2 : τ fM_runSize = τ0 fM_runSize := K _ (by decide)
  have sany : (rg 0 (τ fM_news 0 0)).any (fun i => decide (wR σ0 τ0 f (τ fM_newRun 0 i) = wsT σ0 0 a b)) = decide (wsT σ0 0 a b ∈ nwM σ0 τ0 f τ) := by
    unfold nwM
    cases q : decide (wsT σ0 0 a b ∈ (rg 0 (τ fM_news 0 0)).map (fun k => wR σ0 τ0 f (τ fM_newRun 0 k))) with
    | true =>
      obtain ⟨k, hk, ek⟩ := List.mem_map.mp (of_decide_eq_true q)
      exact List.any_eq_true.mpr ⟨k, hk, decide_eq_true ek⟩
    | false =>
      refine List.any_eq_false.mpr (fun k hk z => ?_)
      exact of_decide_eq_false q (List.mem_map.mpr ⟨k, hk, of_decide_eq_true z⟩)
  have no := mm_isNew_38 E K hO hn hr (d := d) (by omega) 0 (Int.le_refl _) false
  have ye := mm_isNew_38 E K hO hn hr (d := d) (by omega) 0 (Int.le_refl _) true
  rw [b2i_f, Bool.false_and] at no
  rw [b2i_t, Bool.true_and, sany] at ye
  rw [e_m_isNew, ck_ok _ r0, x2, r2]
  by_cases q1 : 3 < b - a
  · rw [if_pos q1, e_m_isNew_34, e_m_isNew_35, no]
    unfold nB
    rw [decide_eq_false (fun z => by have := z.1; omega)]
  · obtain ⟨k', m1, m2, m3⟩ := m_mean E K hb (t := f + a) (n := b - a) rfl rfl (d := d) (by omega)
    rw [if_neg q1, ck_ok _ r0, ck_ok _ r0, x1, r1, m1]
    simp only [Option.bind_some]
    by_cases q2 : fnd σ0 (nmT σ0 a b) 0 = -1
    · rw [if_pos (m2 q2), e_m_isNew_35, ye]
      unfold nB
      by_cases q3 : wsT σ0 0 a b ∈ nwM σ0 τ0 f τ
      · rw [decide_eq_true q3, decide_eq_false (fun z => z.2.2 q3)]; rfl
      · rw [decide_eq_false q3, decide_eq_true ⟨by omega, q2, q3⟩]; rfl
    · have := m3 q2
      rw [if_neg (by omega), e_m_isNew_34, e_m_isNew_35, no]
      unfold nB
      rw [decide_eq_false (fun z => q2 z.2.1)]
def mbN : List Nat := [fM_bestFault, fM_bestPlace, fM_bestRank, fM_newRun, fM_news]
theorem m_mustBeNew {τ : ga_S} (E : E0 σ0 τ0 f N) (K : KM τ0 τ) {c : Int} (hF : GT τ c) (hO : nwQ σ0 τ0 f N τ) (hn : τ fM_news 0 0 < 2600) {r a b : Int} (hr : RU σ0 τ0 f N r a b) (hv mo : Int) {d : Nat} (hd : 4 ≤ d) : ∃ τ', c_m_mustBeNew d τ r hv mo = some (0, τ') ∧ fr mbN τ τ' ∧ KM τ0 τ' ∧ GT τ' (min c (if nB σ0 (wsT σ0 0 a b) (nwM σ0 τ0 f τ) = true then (if hv < mo then 1000000 else cd σ0 a 0) else cd σ0 a 1)) ∧ nwQ σ0 τ0 f N τ' ∧ τ' fM_news 0 0 ≤ τ fM_news 0 0 + 1 ∧ nwM σ0 τ0 f τ' = (if nB σ0 (wsT σ0 0 a b) (nwM σ0 τ0 f τ) = true then nwM σ0 τ0 f τ ++ [wsT σ0 0 a b] else nwM σ0 τ0 f τ) := by
  obtain ⟨d, rfl⟩ : ∃ e, d = e + 1 := ⟨d - 1, by omega⟩
  have hr' := hr
  obtain ⟨r0, r1, r2, hb⟩ := hr'
  have i1 := hb.1
  have i2 := hb.2.1
  have i3 := hb.2.2.1
  have h0 := hO.1
  rw [e_m_mustBeNew, m_isNew E K hO (by omega) hr (by omega)]
  simp only [Option.bind_some]
  cases q : nB σ0 (wsT σ0 0 a b) (nwM σ0 τ0 f τ) with
  | false =>
    obtain ⟨τ1, e1, e2, e3⟩ := m_note E.2.1 ⟨E.1.1, E.1.2.1⟩ K hF (t := a) (t' := f + a) (r := 1) (why := 3) (by omega) rfl (by omega) (by decide) (d := d) (by omega)
    rw [if_pos b2i_f, ck_ok _ r0, K _ (by decide), r1, e1, if_neg (by decide), if_neg (by decide)]
    refine ⟨τ1, rfl, fr_sub e2 (by decide), KM_f K e2 (by decide), e3, ?_, ?_, ?_⟩
    · unfold nwQ; rw [e2 _ (by decide), e2 _ (by decide)]; exact hO
    · rw [e2 _ (by decide)]; omega
    · unfold nwM; rw [e2 _ (by decide), e2 _ (by decide)]
  | true =>
    rw [if_neg b2i_n, if_pos rfl, if_pos rfl]
    have go : ∀ g : Int, ∃ τ', m_mustBeNew_19 d τ r g = some (0, τ') ∧ fr mbN τ τ' ∧ KM τ0 τ' ∧ GT τ' (min c (if g = 0 then cd σ0 a 0 else 1000000)) ∧ nwQ σ0 τ0 f N τ' ∧ τ' fM_news 0 0 ≤ τ fM_news 0 0 + 1 ∧ nwM σ0 τ0 f τ' = nwM σ0 τ0 f τ ++ [wsT σ0 0 a b] := by
      intro g
      obtain ⟨τ1, e1, e2, e3, e4⟩ := m_need E K hF (t := a) (t' := f + a) (r := 0) (why := 9) (g := g) (by omega) rfl (by omega) (by decide) (d := d) (by omega)
      have v1 : τ1 fM_news = τ fM_news := e2 _ (by decide)
      have v2 : τ1 fM_newRun = τ fM_newRun := e2 _ (by decide)
      have fr2 : fr [fM_newRun, fM_news] τ1 (ga_up (ga_up τ1 fM_newRun 0 (τ fM_news 0 0) r) fM_news 0 0 (τ fM_news 0 0 + 1)) := fr_trans (fr_u (by decide)) (fr_u (by decide))
      rw [e_m_mustBeNew_19, ck_ok _ r0, K _ (by decide), r1, e1]
      simp only [Option.bind_some]
      rw [v1, ck_ok _ (by omega), w32_ok (by omega)]
      refine ⟨_, rfl, fr_trans (fr_sub e2 (by decide)) (fr_sub fr2 (by decide)), KM_f e3 fr2 (by decide), GT_f e4 fr2 (by decide), ?_, ?_, ?_⟩
      · unfold nwQ
        rw [up_eq, up_F (F' := fM_newRun) (by decide)]
        refine ⟨by omega, fun k k0 k1 => ?_⟩
        rw [up_at, v2]
        by_cases z : k = τ fM_news 0 0
        · rw [if_pos z]; exact ⟨a, b, hr⟩
        · rw [if_neg z]; exact hO.2 k k0 (by omega)
      · rw [up_eq]; omega
      · unfold nwM
        rw [up_eq, up_F (F' := fM_newRun) (by decide), rg_snoc 0 h0, List.map_append]
        congr 1
        · apply List.map_congr_left
          intro k hk
          have m := (rg_mem 0).mp hk
          rw [up_at, if_neg (by omega), v2]
        · rw [List.map_cons, List.map_nil, up_eq, wR_RU hr]
    by_cases z : hv < mo
    · rw [if_pos z, if_pos z]
      have g := go 1
      rw [if_neg (by decide)] at g
      exact g
    · rw [if_neg z, if_neg z]
      have g := go 0
      rw [if_pos rfl] at g
      exact g
/-- what is new is so for both -/
def sameN (σ0 : ga_S) (S T : List (List (List Int))) : Prop := ∀ W, nB σ0 W S = nB σ0 W T
theorem sameN_s {S T : List (List (List Int))} (h : sameN σ0 S T) (W : List (List Int)) : sameN σ0 (S ++ [W]) (if nB σ0 W T = true then T ++ [W] else T) := by
  intro V
  have hV := h V
  have hW := h W
  unfold nB at hV hW ⊢
  have hV' := decide_eq_decide.mp hV
  have hW' := decide_eq_decide.mp hW
  apply decide_eq_decide.mpr
  by_cases q : decide (W.length ≤ 3 ∧ fnd σ0 (jn W) 0 = -1 ∧ W ∉ T) = true
  · rw [if_pos q]
    simp only [List.mem_append, List.mem_singleton, not_or]
    constructor
    · intro ⟨z1, z2, z3, z4⟩
      exact ⟨z1, z2, (hV'.mp ⟨z1, z2, z3⟩).2.2, z4⟩
    · intro ⟨z1, z2, z3, z4⟩
      exact ⟨z1, z2, (hV'.mpr ⟨z1, z2, z3⟩).2.2, z4⟩
  · rw [if_neg q]
    have nq : ¬ (W.length ≤ 3 ∧ fnd σ0 (jn W) 0 = -1 ∧ W ∉ T) := fun z => q (decide_eq_true z)
    simp only [List.mem_append, List.mem_singleton, not_or]
    constructor
    · intro ⟨z1, z2, z3, z4⟩
      exact hV'.mp ⟨z1, z2, z3⟩
    · intro z
      have y := hV'.mpr z
      exact ⟨y.1, y.2.1, y.2.2, fun e => nq (by rw [← e]; exact z)⟩
end

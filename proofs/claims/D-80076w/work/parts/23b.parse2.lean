/-! runs, names -/
/-- behind the free words from a place on -/
def frE (K : Int → Int) (N p : Int) : Int := sk (fun q => decide (K q = 0)) (N + 1) p
theorem frE_r {σ τ : ga_S} {f : Int} {N : Nat} (hE : ENV σ τ f N) {p : Int} (h0 : 0 ≤ p) (hN : p ≤ N) : p ≤ frE (σ fT_kinds 0) N p ∧ frE (σ fT_kinds 0) N p ≤ N ∧ σ fT_kinds 0 (frE (σ fT_kinds 0) N p) ≠ 0 ∧ (∀ q, p ≤ q → q < frE (σ fT_kinds 0) N p → σ fT_kinds 0 q = 0) := by
  have a := sk_all (f := fun q => decide (σ fT_kinds 0 q = 0)) (n := (N : Int) + 1) p
  have le : frE (σ fT_kinds 0) N p ≤ N := by
    refine Classical.byContradiction fun hc => ?_
    unfold frE at hc
    have := a.2.2.2 N hN (by omega)
    have := of_decide_eq_true this
    rcases hE.2.2.2.2.1 with z | z <;> omega
  refine ⟨a.1, le, ?_, fun q h1 h2 => of_decide_eq_true (a.2.2.2 q h1 h2)⟩
  have := a.2.2.1 (by unfold frE at le; omega)
  exact of_decide_eq_false this
theorem s_r_isFree {σ : ga_S} {d : Nat} (hd : 1 ≤ d) {k : Int} (hk : 0 ≤ k ∧ k < 5002) : c_r_isFree d σ k = some (b2i (decide (σ fT_kinds 0 k = 0)), σ) := by
  obtain ⟨d, rfl⟩ : ∃ e, d = e + 1 := ⟨d - 1, by omega⟩
  rw [e_r_isFree, ck_ok _ hk]
  by_cases c : σ fT_kinds 0 k = 0
  · rw [if_pos c, decide_eq_true c]; rfl
  · rw [if_neg c, decide_eq_false c]; rfl
theorem s_r_is {σ : ga_S} {d : Nat} (hd : 1 ≤ d) {k : Int} (hk : 0 ≤ k ∧ k < 5002) (c : Int) : c_r_is d σ k c = some (b2i (decide (σ fT_kinds 0 k = c)), σ) := by
  obtain ⟨d, rfl⟩ : ∃ e, d = e + 1 := ⟨d - 1, by omega⟩
  rw [e_r_is, ck_ok _ hk]
  by_cases e : σ fT_kinds 0 k = c
  · rw [if_pos e, decide_eq_true e]; rfl
  · rw [if_neg e, decide_eq_false e]; rfl
theorem s_r_run_38 {σ τ : ga_S} {f : Int} {N : Nat} (hE : ENV σ τ f N) {d : Nat} (hd : 1 ≤ d) (hr : 0 ≤ σ fR_runs 0 0 ∧ σ fR_runs 0 0 < 5000) : ∀ p : Int, 0 ≤ p → p ≤ N → r_run_38 d (ga_up σ fR_p 0 0 p) = some (0, ga_up (ga_up (ga_up σ fR_p 0 0 (frE (σ fT_kinds 0) N p)) fR_runTo 0 (σ fR_runs 0 0) (frE (σ fT_kinds 0) N p)) fR_runs 0 0 (σ fR_runs 0 0 + 1)) := by
  have hf := hE.1
  have hN := hE.2.1
  refine rg_ind (n := (N : Int)) ?_ ?_
  · intro p h h0 h1
    have e : p = N := by omega
    have k : σ fT_kinds 0 p ≠ 0 := by rw [e]; rcases hE.2.2.2.2.1 with z | z <;> omega
    have eE : frE (σ fT_kinds 0) N p = p := by unfold frE; exact sk_x (by omega) (decide_eq_false k)
    rw [e_r_run_38, up_eq, s_r_isFree hd ⟨h0, by omega⟩]; simp only [Option.bind_some]; rw [up_F (F' := fT_kinds) (by decide), decide_eq_false k, if_pos b2i_f, up_F (F' := fR_runs) (by decide), ck_ok _ hr, up_eq, w32_ok (by omega), eE]
  · intro p h ih h0 h1
    rw [e_r_run_38, up_eq, s_r_isFree hd ⟨h0, by omega⟩]; simp only [Option.bind_some]; rw [up_F (F' := fT_kinds) (by decide)]
    by_cases k : σ fT_kinds 0 p = 0
    · have eE : frE (σ fT_kinds 0) N p = frE (σ fT_kinds 0) N (p + 1) := by unfold frE; exact sk_s (by omega) (decide_eq_true k)
      rw [decide_eq_true k, if_neg b2i_n, up_eq, up_up, w32_ok (by omega), ih (by omega) (by omega), eE]
    · have eE : frE (σ fT_kinds 0) N p = p := by unfold frE; exact sk_x (by omega) (decide_eq_false k)
      rw [decide_eq_false k, if_pos b2i_f, up_F (F' := fR_runs) (by decide), ck_ok _ hr, up_eq, w32_ok (by omega), eE]
theorem s_m_run_27 {σ τ : ga_S} {f : Int} {N : Nat} (hE : ENV σ τ f N) (d : Nat) {r : Int} (hr : τ fM_runs 0 0 = r) (hr2 : 0 ≤ r ∧ r < 2600) (hq : 0 ≤ τ fM_runFrom 0 r ∧ τ fM_runFrom 0 r ≤ 5002) : ∀ p : Int, 0 ≤ p → p ≤ N → m_run_27 d (ga_up τ fM_at 0 0 (f + p)) = some (r, ga_up (ga_up (ga_up τ fM_at 0 0 (f + frE (σ fT_kinds 0) N p)) fM_runSize 0 r (f + frE (σ fT_kinds 0) N p - τ fM_runFrom 0 r)) fM_runs 0 0 (r + 1)) := by
  have hf := hE.1
  have hN := hE.2.1
  have stop : ∀ p : Int, 0 ≤ p → p ≤ N → σ fT_kinds 0 p ≠ 0 → m_run_27 d (ga_up τ fM_at 0 0 (f + p)) = some (r, ga_up (ga_up (ga_up τ fM_at 0 0 (f + p)) fM_runSize 0 r (f + p - τ fM_runFrom 0 r)) fM_runs 0 0 (r + 1)) := by
    intro p h0 h1 k
    have i : τ fM_token 0 (f + p) = 3 ↔ σ fT_kinds 0 p = 0 := ENV_is hE h0 h1 (c := 0) (by omega)
    rw [e_m_run_27, up_eq, ck_ok _ (by omega), up_F (F' := fM_token) (by decide), if_neg (fun z => k (i.mp z)), up_F (F' := fM_runs) (by decide), hr, ck_ok _ hr2, ck_ok _ hr2, up_F (F' := fM_runFrom) (by decide), w32_ok (x := r + 1) (by omega), w32_ok (x := r + 1 - 1) (by omega), w32_ok (by omega)]
    congr 2
    omega
  refine rg_ind (n := (N : Int)) ?_ ?_
  · intro p h h0 h1
    have e : p = N := by omega
    have k : σ fT_kinds 0 p ≠ 0 := by rw [e]; rcases hE.2.2.2.2.1 with z | z <;> omega
    have eE : frE (σ fT_kinds 0) N p = p := by unfold frE; exact sk_x (by omega) (decide_eq_false k)
    rw [eE, stop p h0 h1 k]
  · intro p h ih h0 h1
    by_cases k : σ fT_kinds 0 p = 0
    · have i : τ fM_token 0 (f + p) = 3 ↔ σ fT_kinds 0 p = 0 := ENV_is hE h0 h1 (c := 0) (by omega)
      have eE : frE (σ fT_kinds 0) N p = frE (σ fT_kinds 0) N (p + 1) := by unfold frE; exact sk_s (by omega) (decide_eq_true k)
      rw [e_m_run_27, up_eq, ck_ok _ (by omega), up_F (F' := fM_token) (by decide), if_pos (i.mpr k), up_up, w32_ok (by omega), show f + p + 1 = f + (p + 1) by omega, ih (by omega) (by omega), eE]
    · have eE : frE (σ fT_kinds 0) N p = p := by unfold frE; exact sk_x (by omega) (decide_eq_false k)
      rw [eE, stop p h0 h1 k]
def rcL : List Nat := [fR_p, fR_bad, fR_runs, fR_runFrom, fR_runTo]
def rmL : List Nat := [fM_at, fM_isBad, fM_badAt, fM_runs, fM_runFrom, fM_runSize]
theorem fr_pc {σ σ' : ga_S} (h : fr pcL σ σ') : fr rcL σ σ' := fr_sub h (by decide)
theorem fr_pm {τ τ' : ga_S} (h : fr pmL τ τ') : fr rmL τ τ' := fr_sub h (by decide)
/-- a run from a on was kept -/
def rOk (σ σ' τ τ' : ga_S) (f : Int) (N : Nat) (a r : Int) : Prop := σ' fR_bad 0 0 = -1 ∧ r = τ fM_runs 0 0 ∧ a < σ' fR_p 0 0 ∧ σ' fR_p 0 0 = frE (σ fT_kinds 0) N a ∧ σ fT_kinds 0 a = 0 ∧ σ' fR_runs 0 0 = σ fR_runs 0 0 + 1 ∧ τ' fM_runs 0 0 = τ fM_runs 0 0 + 1 ∧
  (∀ i, σ' fR_runFrom 0 i = if i = σ fR_runs 0 0 then a else σ fR_runFrom 0 i) ∧ (∀ i, σ' fR_runTo 0 i = if i = σ fR_runs 0 0 then σ' fR_p 0 0 else σ fR_runTo 0 i) ∧
  (∀ i, τ' fM_runFrom 0 i = if i = τ fM_runs 0 0 then f + a else τ fM_runFrom 0 i) ∧ (∀ i, τ' fM_runSize 0 i = if i = τ fM_runs 0 0 then σ' fR_p 0 0 - a else τ fM_runSize 0 i)
/-- there was none, it is wrong -/
def rBad (σ σ' τ τ' : ga_S) : Prop := σ' fR_bad 0 0 ≠ -1 ∧ σ' fR_runs = σ fR_runs ∧ τ' fM_runs = τ fM_runs ∧ σ' fR_runFrom = σ fR_runFrom ∧ σ' fR_runTo = σ fR_runTo ∧ τ' fM_runFrom = τ fM_runFrom ∧ τ' fM_runSize = τ fM_runSize
/-- a run, on both sides: it is kept as the next one, or it is wrong -/
theorem P_run {σ τ : ga_S} {f : Int} {N : Nat} (hE : ENV σ τ f N) (h : PR σ τ f N) {d : Nat} (hd : 2 ≤ d) (hr : 0 ≤ σ fR_runs 0 0 ∧ σ fR_runs 0 0 < 5000) (hm : 0 ≤ τ fM_runs 0 0 ∧ τ fM_runs 0 0 < 2600) : ∃ r σ' τ', c_r_run d σ = some (0, σ') ∧ c_m_run d τ = some (r, τ') ∧ PR σ' τ' f N ∧ fr rcL σ σ' ∧ fr rmL τ τ' ∧ (rBad σ σ' τ τ' ∨ (σ fR_bad 0 0 = -1 ∧ rOk σ σ' τ τ' f N (σ fR_p 0 0) r)) := by
  obtain ⟨d, rfl⟩ : ∃ e, d = e + 1 := ⟨d - 1, by omega⟩
  have hf := hE.1
  have hN := hE.2.1
  have e3 : (3 : Int) = cdM 0 := rfl
  rw [e_r_run, e_m_run, e3, s_m_isNext hE h (by omega) (c := 0) (by omega)]; simp only [Option.bind_some]
  by_cases c1 : σ fR_bad 0 0 = -1 ∧ σ fT_kinds 0 (σ fR_p 0 0) = 0
  · have h' := h.2.resolve_right (fun z => by omega)
    have F := frE_r hE h'.2.2.1 h'.2.2.2.1
    have lt : σ fR_p 0 0 < frE (σ fT_kinds 0) N (σ fR_p 0 0) := by
      by_cases e : frE (σ fT_kinds 0) N (σ fR_p 0 0) = σ fR_p 0 0
      · rw [e] at F; exact absurd c1.2 F.2.2.1
      · omega
    have E1 : ENV (ga_up σ fR_runFrom 0 (σ fR_runs 0 0) (σ fR_p 0 0)) τ f N := ENV_c hE (up_F (by decide) ..) rfl
    have E2 : ENV σ (ga_up τ fM_runFrom 0 (τ fM_runs 0 0) (τ fM_at 0 0)) f N := ENV_c hE rfl (up_F (by decide) ..)
    have g1 := s_r_run_38 E1 (d := d) (by omega) (by rw [up_F (by decide)]; exact hr) (σ fR_p 0 0) h'.2.2.1 h'.2.2.2.1
    rw [show ga_up (ga_up σ fR_runFrom 0 (σ fR_runs 0 0) (σ fR_p 0 0)) fR_p 0 0 (σ fR_p 0 0) = ga_up σ fR_runFrom 0 (σ fR_runs 0 0) (σ fR_p 0 0) from up_id (by rw [up_F (by decide)]), up_F (F' := fR_runs) (by decide), up_F (F' := fT_kinds) (by decide)] at g1
    have g2 := s_m_run_27 E2 d (r := τ fM_runs 0 0) (by rw [up_F (by decide)]) hm (by rw [up_eq]; omega) (σ fR_p 0 0) h'.2.2.1 h'.2.2.2.1
    rw [show ga_up (ga_up τ fM_runFrom 0 (τ fM_runs 0 0) (τ fM_at 0 0)) fM_at 0 0 (f + σ fR_p 0 0) = ga_up τ fM_runFrom 0 (τ fM_runs 0 0) (τ fM_at 0 0) from up_id (by rw [up_F (by decide)]; exact h'.2.2.2.2), up_eq] at g2
    rw [if_pos c1.1, s_r_isFree (by omega) ⟨h'.2.2.1, by omega⟩]; simp only [Option.bind_some]; rw [decide_eq_true c1.2, if_neg b2i_n, ck_ok _ hr, decide_eq_true c1, if_neg b2i_n, ck_ok _ hm]
    rw [g1, g2]
    refine ⟨_, _, _, rfl, rfl, ⟨?_, Or.inl ⟨?_, ?_, ?_, ?_, ?_⟩⟩, ?_, ?_, Or.inr ⟨c1.1, ?_, rfl, ?_, ?_, c1.2, ?_, ?_, fun i => ?_, fun i => ?_, fun i => ?_, fun i => ?_⟩⟩
    · rw [up_F (F' := fR_p) (by decide), up_F (F' := fR_p) (by decide), up_eq, up_F (F' := fM_at) (by decide), up_F (F' := fM_at) (by decide), up_eq]; omega
    · rw [up_F (by decide), up_F (by decide), up_F (by decide), up_F (by decide)]; exact h'.1
    · rw [up_F (by decide), up_F (by decide), up_F (by decide), up_F (by decide)]; exact h'.2.1
    · rw [up_F (by decide), up_F (by decide), up_eq]; omega
    · rw [up_F (by decide), up_F (by decide), up_eq]; exact F.2.1
    · rw [up_F (by decide), up_F (by decide), up_eq, up_F (F' := fR_p) (by decide), up_F (F' := fR_p) (by decide), up_eq]
    · exact fr_trans (fr_trans (fr_trans (fr_u (by decide)) (fr_u (by decide))) (fr_u (by decide))) (fr_u (by decide))
    · exact fr_trans (fr_trans (fr_trans (fr_u (by decide)) (fr_u (by decide))) (fr_u (by decide))) (fr_u (by decide))
    · rw [up_F (by decide), up_F (by decide), up_F (by decide), up_F (by decide)]; exact h'.1
    · rw [up_F (by decide), up_F (by decide), up_eq]; exact lt
    · rw [up_F (by decide), up_F (by decide), up_eq]
    · rw [up_eq]
    · rw [up_eq]
    · rw [up_F (by decide), up_F (by decide), up_F (by decide), up_at]
    · rw [up_F (by decide), up_at, up_F (F' := fR_runTo) (by decide), up_F (F' := fR_runTo) (by decide), up_F (F' := fR_p) (by decide), up_F (F' := fR_p) (by decide), up_eq]
    · rw [up_F (by decide), up_F (by decide), up_F (by decide), up_at, h'.2.2.2.2]
    · rw [up_F (by decide), up_at, up_F (F' := fM_runSize) (by decide), up_F (F' := fM_runSize) (by decide), up_F (F' := fR_p) (by decide), up_F (F' := fR_p) (by decide), up_eq, h'.2.2.2.2, show f + frE (σ fT_kinds 0) N (σ fR_p 0 0) - (f + σ fR_p 0 0) = frE (σ fT_kinds 0) N (σ fR_p 0 0) - σ fR_p 0 0 by omega]
  · obtain ⟨σ', τ', e1, e2, e3, e4, e5, e6⟩ := P_wrong h (d := d) (by omega)
    have t19 : r_run_19 d σ = some (0, σ') := by rw [e_r_run_19, e1]; simp only [Option.bind_some]
    rw [decide_eq_false c1, if_pos b2i_f, e2]; simp only [Option.bind_some]
    refine ⟨0, σ', τ', ?_, rfl, e3, fr_pc e5, fr_pm e6, Or.inl ⟨e4, e5 _ (by decide), e6 _ (by decide), e5 _ (by decide), e5 _ (by decide), e6 _ (by decide), e6 _ (by decide)⟩⟩
    by_cases c2 : σ fR_bad 0 0 = -1
    · have h' := h.2.resolve_right (fun z => by omega)
      have c3 : ¬ σ fT_kinds 0 (σ fR_p 0 0) = 0 := fun z => c1 ⟨c2, z⟩
      rw [if_pos c2, s_r_isFree (by omega) ⟨h'.2.2.1, by omega⟩]; simp only [Option.bind_some]; rw [decide_eq_false c3, if_pos b2i_f, t19]
    · rw [if_neg c2, t19]
theorem s_k_isArticle {σ : ga_S} {d : Nat} (hd : 1 ≤ d) (k : Int) : c_k_isArticle d σ k = some (b2i (decide (9 ≤ k ∧ k ≤ 12)), σ) := by
  obtain ⟨d, rfl⟩ : ∃ e, d = e + 1 := ⟨d - 1, by omega⟩
  rw [e_k_isArticle]
  by_cases c : 9 ≤ k ∧ k ≤ 12
  · rw [decide_eq_true c]
    have y : k_isArticle_28 d σ = some (1, σ) := e_k_isArticle_28 d σ
    by_cases c1 : k = 9
    · rw [if_pos c1, y]; rfl
    · rw [if_neg c1]
      by_cases c2 : k = 10
      · rw [if_pos c2, y]; rfl
      · rw [if_neg c2]
        by_cases c3 : k = 11
        · rw [if_pos c3, y]; rfl
        · rw [if_neg c3, if_pos (by omega), y]; rfl
  · rw [decide_eq_false c, if_neg (by omega), if_neg (by omega), if_neg (by omega), if_neg (by omega)]; rfl
theorem s_m_isArt {τ : ga_S} {d : Nat} (hd : 1 ≤ d) (k : Int) : c_m_isArt d τ k = some (b2i (decide (100 ≤ k ∧ k ≤ 103)), τ) := by
  obtain ⟨d, rfl⟩ : ∃ e, d = e + 1 := ⟨d - 1, by omega⟩
  rw [e_m_isArt]
  by_cases c1 : k < 100
  · rw [if_pos c1, decide_eq_false (by omega)]; rfl
  · rw [if_neg c1]
    by_cases c2 : 103 < k
    · rw [if_pos c2, decide_eq_false (by omega)]; rfl
    · rw [if_neg c2, decide_eq_true (by omega)]; rfl
theorem cdM_art {k : Int} (h : 0 ≤ k ∧ k < 64) : (100 ≤ cdM k ∧ cdM k ≤ 103) ↔ (9 ≤ k ∧ k ≤ 12) := by
  unfold cdM
  repeat' split
  all_goals omega
/-- an article stands at the place -/
def artAt (σ : ga_S) : Bool := decide (σ fR_bad 0 0 = -1 ∧ 9 ≤ σ fT_kinds 0 (σ fR_p 0 0) ∧ σ fT_kinds 0 (σ fR_p 0 0) ≤ 12)
theorem s_m_lookArt {σ τ : ga_S} {f : Int} {N : Nat} (hE : ENV σ τ f N) (h : PR σ τ f N) {d : Nat} (hd : 1 ≤ d) : (c_m_look d τ).bind (fun q1 => c_m_isArt d q1.2 q1.1) = some (b2i (artAt σ), τ) := by
  rw [s_m_look hE h hd]; simp only [Option.bind_some]; rw [s_m_isArt hd]
  unfold artAt
  replace h := h.2
  rcases h with h | h
  · have k := hE.2.2.2.1 _ h.2.2.1 h.2.2.2.1
    rw [if_pos h.1]
    congr 3
    apply decide_eq_decide.mpr
    rw [cdM_art ⟨k.1, k.2.1⟩]
    exact ⟨fun z => ⟨h.1, z⟩, fun z => z.2⟩
  · rw [if_neg (by omega), decide_eq_false (by omega), decide_eq_false (by omega)]
theorem artAt_lt {σ τ : ga_S} {f : Int} {N : Nat} (hE : ENV σ τ f N) (h : PR σ τ f N) (ha : artAt σ = true) : σ fR_bad 0 0 = -1 ∧ 0 ≤ σ fR_p 0 0 ∧ σ fR_p 0 0 < N ∧ τ fM_at 0 0 = f + σ fR_p 0 0 := by
  have a := of_decide_eq_true ha
  have h' := h.2.resolve_right (fun z => by omega)
  exact ⟨a.1, h'.2.2.1, ENV_lt hE h'.2.2.2.1 rfl (by omega) (by omega), h'.2.2.2.2⟩
/-- an article is taken if it stands there: the component's store, the model's -/
def artC (σ : ga_S) : ga_S := if artAt σ = true then ga_up σ fR_p 0 0 (σ fR_p 0 0 + 1) else σ
def artM (σ τ : ga_S) : ga_S := if artAt σ = true then ga_up τ fM_at 0 0 (τ fM_at 0 0 + 1) else τ
theorem s_r_article {σ τ : ga_S} {f : Int} {N : Nat} (hE : ENV σ τ f N) (h : PR σ τ f N) {d : Nat} (hd : 2 ≤ d) : c_r_article d σ = some (0, artC σ) := by
  obtain ⟨d, rfl⟩ : ∃ e, d = e + 1 := ⟨d - 1, by omega⟩
  have hf := hE.1
  have hN := hE.2.1
  have hR := h.1
  unfold artC artAt
  rw [e_r_article]
  by_cases c1 : σ fR_bad 0 0 = -1
  · have h' := h.2.resolve_right (fun z => by omega)
    have k := hE.2.2.2.1 _ h'.2.2.1 h'.2.2.2.1
    rw [if_pos c1, ck_ok _ (by omega), nn_ok _ k.1, s_k_isArticle (by omega)]; simp only [Option.bind_some]
    by_cases c2 : 9 ≤ σ fT_kinds 0 (σ fR_p 0 0) ∧ σ fT_kinds 0 (σ fR_p 0 0) ≤ 12
    · rw [decide_eq_true c2, if_neg b2i_n, e_r_article_36, w32_ok (by omega), if_pos (decide_eq_true ⟨c1, c2⟩)]
    · rw [decide_eq_false c2, if_pos b2i_f, e_r_article_35, e_r_article_36, Int.add_zero, w32_ok (by omega), up_self, if_neg (by rw [decide_eq_false (fun z => c2 z.2)]; decide)]
  · rw [if_neg c1, e_r_article_35, e_r_article_36, Int.add_zero, w32_ok (by omega), up_self, if_neg (by rw [decide_eq_false (fun z => c1 z.1)]; decide)]
theorem P_art {σ τ : ga_S} {f : Int} {N : Nat} (hE : ENV σ τ f N) (h : PR σ τ f N) : PR (artC σ) (artM σ τ) f N ∧ fr pcL σ (artC σ) ∧ fr pmL τ (artM σ τ) ∧ (artC σ) fR_bad 0 0 = σ fR_bad 0 0 ∧ (σ fR_bad 0 0 = -1 → (artC σ) fR_p 0 0 = σ fR_p 0 0 + (if artAt σ = true then 1 else 0)) := by
  have hf := hE.1
  have hN := hE.2.1
  unfold artC artM
  by_cases c : artAt σ = true
  · have a := artAt_lt hE h c
    rw [if_pos c, if_pos c, if_pos c]
    exact ⟨PR_step h a.1 (by omega) (by omega), fr_u (by decide), fr_u (by decide), by rw [up_F (by decide)], fun _ => up_eq ..⟩
  · rw [if_neg c, if_neg c, if_neg c]
    exact ⟨h, fr_refl _ _, fr_refl _ _, rfl, fun z => by omega⟩
/-- a name: an article may stand ahead of its run -/
theorem P_name {σ τ : ga_S} {f : Int} {N : Nat} (hE : ENV σ τ f N) (h : PR σ τ f N) {d : Nat} (hd : 4 ≤ d) (hr : 0 ≤ σ fR_runs 0 0 ∧ σ fR_runs 0 0 < 5000) (hm : 0 ≤ τ fM_runs 0 0 ∧ τ fM_runs 0 0 < 2600) : ∃ r σ' τ', c_r_name d σ = some (0, σ') ∧ c_m_name0 d τ = some (r, τ') ∧ PR σ' τ' f N ∧ fr rcL σ σ' ∧ fr rmL τ τ' ∧ (rBad σ σ' τ τ' ∨ (σ fR_bad 0 0 = -1 ∧ rOk σ σ' τ τ' f N (σ fR_p 0 0 + (if artAt σ = true then 1 else 0)) r)) := by
  obtain ⟨d, rfl⟩ : ∃ e, d = e + 1 := ⟨d - 1, by omega⟩
  obtain ⟨a1, a2, a3, a4, a5⟩ := P_art hE h
  have L := s_m_lookArt hE h (d := d) (by omega)
  have E' : ENV (artC σ) (artM σ τ) f N := ENV_c hE (a2 _ (by decide)) (a3 _ (by decide))
  obtain ⟨r, σ', τ', e1, e2, e3, e4, e5, e6⟩ := P_run E' a1 (d := d) (by omega) (by rw [a2 fR_runs (by decide)]; exact hr) (by rw [a3 fM_runs (by decide)]; exact hm)
  have m20 : m_name0_20 d (artM σ τ) = some (r, τ') := by rw [e_m_name0_20, e2]; simp only [Option.bind_some]
  refine ⟨r, σ', τ', ?_, ?_, e3, fr_trans (fr_pc a2) e4, fr_trans (fr_pm a3) e5, ?_⟩
  · rw [e_r_name, s_r_article hE h (by omega)]; simp only [Option.bind_some]; rw [e1]; simp only [Option.bind_some]
  · have e : c_m_name0 (d + 1) τ = ((c_m_look d τ).bind (fun q1 => c_m_isArt d q1.2 q1.1)).bind (fun q2 => if q2.1 = 0 then m_name0_20 d q2.2 else m_name0_20 d (ga_up q2.2 fM_at 0 0 (w32 (q2.2 fM_at 0 0 + 1)))) := by
      rw [e_m_name0, Option.bind_assoc]
    rw [e, L]; simp only [Option.bind_some]
    have hf := hE.1
    have hN := hE.2.1
    by_cases c : artAt σ = true
    · have a := artAt_lt hE h c
      rw [c, if_neg b2i_n, w32_ok (by omega)]
      unfold artM at m20
      rw [if_pos c] at m20
      exact m20
    · have c' : artAt σ = false := by cases z : artAt σ with
        | true => exact absurd z c
        | false => rfl
      rw [c', if_pos b2i_f]
      unfold artM at m20
      rw [if_neg c] at m20
      exact m20
  · rcases e6 with b | ⟨b0, b⟩
    · left
      obtain ⟨b1, b2, b3, b4, b5, b6, b7⟩ := b
      exact ⟨b1, b2.trans (a2 _ (by decide)), b3.trans (a3 _ (by decide)), b4.trans (a2 _ (by decide)), b5.trans (a2 _ (by decide)), b6.trans (a3 _ (by decide)), b7.trans (a3 _ (by decide))⟩
    · right
      rw [a4] at b0
      unfold rOk at b ⊢
      rw [a5 b0, a2 fT_kinds (by decide), a2 fR_runs (by decide), a2 fR_runFrom (by decide), a2 fR_runTo (by decide), a3 fM_runs (by decide), a3 fM_runFrom (by decide), a3 fM_runSize (by decide)] at b
      exact ⟨b0, b⟩
/-- an article must stand there -/
theorem P_needArt {σ τ : ga_S} {f : Int} {N : Nat} (hE : ENV σ τ f N) (h : PR σ τ f N) {d : Nat} (hd : 3 ≤ d) : ∃ σ' τ', c_r_needArticle d σ = some (0, σ') ∧ c_m_art d τ = some (0, τ') ∧ PR σ' τ' f N ∧ fr pcL σ σ' ∧ fr pmL τ τ' := by
  obtain ⟨d, rfl⟩ : ∃ e, d = e + 1 := ⟨d - 1, by omega⟩
  have hf := hE.1
  have hN := hE.2.1
  have L := s_m_lookArt hE h (d := d) (by omega)
  have e : c_m_art (d + 1) τ = ((c_m_look d τ).bind (fun q1 => c_m_isArt d q1.2 q1.1)).bind (fun q2 => if q2.1 = 0 then (c_m_odd d q2.2).bind fun q3 => some (0, q3.2) else some (0, (ga_up q2.2 fM_at 0 0 (w32 (q2.2 fM_at 0 0 + 1))))) := by
    rw [e_m_art, Option.bind_assoc]
  rw [e, L]; simp only [Option.bind_some]; rw [e_r_needArticle]
  by_cases c : artAt σ = true
  · have a := artAt_lt hE h c
    have a' := of_decide_eq_true c
    have k := hE.2.2.2.1 _ a.2.1 (by omega)
    rw [c, if_neg b2i_n, w32_ok (by omega), if_pos a.1, ck_ok _ (by omega), nn_ok _ k.1, s_k_isArticle (by omega)]; simp only [Option.bind_some]; rw [decide_eq_true a'.2, if_neg b2i_n, w32_ok (by omega)]
    exact ⟨_, _, rfl, rfl, PR_step h a.1 (by omega) (by omega), fr_u (by decide), fr_u (by decide)⟩
  · obtain ⟨σ', τ', e1, e2, e3, e4, e5, e6⟩ := P_wrong h (d := d) (by omega)
    have c' : artAt σ = false := by cases z : artAt σ with
      | true => exact absurd z c
      | false => rfl
    have t26 : r_needArticle_26 d σ = some (0, σ') := by rw [e_r_needArticle_26, e1]; simp only [Option.bind_some]
    rw [c', if_pos b2i_f, e2]; simp only [Option.bind_some]
    refine ⟨σ', τ', ?_, rfl, e3, e5, e6⟩
    by_cases c2 : σ fR_bad 0 0 = -1
    · have h' := h.2.resolve_right (fun z => by omega)
      have k := hE.2.2.2.1 _ h'.2.2.1 h'.2.2.2.1
      have c3 : ¬ (9 ≤ σ fT_kinds 0 (σ fR_p 0 0) ∧ σ fT_kinds 0 (σ fR_p 0 0) ≤ 12) := fun z => c (decide_eq_true ⟨c2, z⟩)
      rw [if_pos c2, ck_ok _ (by omega), nn_ok _ k.1, s_k_isArticle (by omega)]; simp only [Option.bind_some]; rw [decide_eq_false c3, if_pos b2i_f, t26]
    · rw [if_neg c2, t26]

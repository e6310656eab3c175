/-! two parsers over the same tokens -/
def dcM (c : Int) : Int := if c = 3 then 0 else if c = 4 then 1 else if c = 5 then 2 else if c = 46 then 3 else if c = 44 then 4 else if c = 59 then 5 else if c = 58 then 6 else if c = 2 then 7 else if c = 1 then 8 else c - 91
theorem dcM_cdM {a : Int} (ha : 0 ≤ a) : dcM (cdM a) = a := by
  by_cases c : 9 ≤ a
  · rw [cdM_key a c]
    unfold dcM
    rw [if_neg (by omega), if_neg (by omega), if_neg (by omega), if_neg (by omega), if_neg (by omega), if_neg (by omega), if_neg (by omega), if_neg (by omega), if_neg (by omega)]
    omega
  · have h : a = 0 ∨ a = 1 ∨ a = 2 ∨ a = 3 ∨ a = 4 ∨ a = 5 ∨ a = 6 ∨ a = 7 ∨ a = 8 := by omega
    rcases h with h | h | h | h | h | h | h | h | h <;> subst h <;> decide
theorem cdM_inj {a b : Int} (ha : 0 ≤ a ∧ a < 64) (hb : 0 ≤ b ∧ b < 64) : cdM a = cdM b ↔ a = b := by
  constructor
  · intro h
    rw [← dcM_cdM ha.1, h, dcM_cdM hb.1]
  · intro h; rw [h]
/-- tokens of a sentence: token k of the component is token f + k of the model; N is the last one -/
def ENV (σ τ : ga_S) (f : Int) (N : Nat) : Prop := 0 ≤ f ∧ f + N ≤ 5001 ∧ (N : Int) ≤ 5000 ∧ (∀ k : Int, 0 ≤ k → k ≤ N → 0 ≤ σ fT_kinds 0 k ∧ σ fT_kinds 0 k < 64 ∧ τ fM_token 0 (f + k) = cdM (σ fT_kinds 0 k)) ∧ (σ fT_kinds 0 N = 3 ∨ σ fT_kinds 0 N = 8) ∧ (∀ k : Int, 0 ≤ k → k < N → σ fT_kinds 0 k ≠ 3 ∧ σ fT_kinds 0 k ≠ 8)
theorem ENV_c {σ τ : ga_S} {f : Int} {N : Nat} (h : ENV σ τ f N) {σ' τ' : ga_S} (h1 : σ' fT_kinds = σ fT_kinds) (h2 : τ' fM_token = τ fM_token) : ENV σ' τ' f N := by
  unfold ENV
  rw [h1, h2]
  exact h
theorem ENV_is {σ τ : ga_S} {f : Int} {N : Nat} (h : ENV σ τ f N) {k c : Int} (hk : 0 ≤ k) (hN : k ≤ N) (hc : 0 ≤ c ∧ c < 64) : (τ fM_token 0 (f + k) = cdM c) ↔ σ fT_kinds 0 k = c := by
  have e := h.2.2.2.1 k hk hN
  rw [e.2.2]
  exact cdM_inj ⟨e.1, e.2.1⟩ hc
/-- the places of both, or that both are wrong -/
def PR (σ τ : ga_S) (f : Int) (N : Nat) : Prop := (0 ≤ σ fR_p 0 0 ∧ σ fR_p 0 0 ≤ N ∧ f ≤ τ fM_at 0 0 ∧ τ fM_at 0 0 ≤ f + N) ∧ ((σ fR_bad 0 0 = -1 ∧ τ fM_isBad 0 0 = 0 ∧ 0 ≤ σ fR_p 0 0 ∧ σ fR_p 0 0 ≤ N ∧ τ fM_at 0 0 = f + σ fR_p 0 0) ∨ (0 ≤ σ fR_bad 0 0 ∧ σ fR_bad 0 0 ≤ N ∧ τ fM_isBad 0 0 = 1 ∧ τ fM_badAt 0 0 = f + σ fR_bad 0 0))
def pcL : List Nat := [fR_p, fR_bad]
def pmL : List Nat := [fM_at, fM_isBad, fM_badAt]
theorem PR_c {σ τ : ga_S} {f : Int} {N : Nat} (h : PR σ τ f N) {σ' τ' : ga_S} (h1 : σ' fR_p = σ fR_p) (h2 : σ' fR_bad = σ fR_bad) (h3 : τ' fM_at = τ fM_at) (h4 : τ' fM_isBad = τ fM_isBad) (h5 : τ' fM_badAt = τ fM_badAt) : PR σ' τ' f N := by
  unfold PR
  rw [h1, h2, h3, h4, h5]
  exact h
theorem s_r_wrong {σ : ga_S} {d : Nat} (hd : 1 ≤ d) : c_r_wrong d σ = some (0, ga_up σ fR_bad 0 0 (if σ fR_bad 0 0 = -1 then σ fR_p 0 0 else σ fR_bad 0 0)) := by
  obtain ⟨d, rfl⟩ : ∃ e, d = e + 1 := ⟨d - 1, by omega⟩
  rw [e_r_wrong]
  by_cases c : σ fR_bad 0 0 = -1
  · rw [if_pos c, e_r_wrong_20, if_pos c]
  · rw [if_neg c, e_r_wrong_20, if_neg c]
theorem s_m_odd {τ : ga_S} {d : Nat} (hd : 1 ≤ d) : c_m_odd d τ = some (0, if τ fM_isBad 0 0 = 0 then ga_up (ga_up τ fM_isBad 0 0 1) fM_badAt 0 0 (τ fM_at 0 0) else τ) := by
  obtain ⟨d, rfl⟩ : ∃ e, d = e + 1 := ⟨d - 1, by omega⟩
  rw [e_m_odd]
  by_cases c : τ fM_isBad 0 0 = 0
  · rw [if_pos c, if_pos c]
  · rw [if_neg c, if_neg c]
/-- wrong, on both sides -/
theorem P_wrong {σ τ : ga_S} {f : Int} {N : Nat} (h : PR σ τ f N) {d : Nat} (hd : 1 ≤ d) : ∃ σ' τ', c_r_wrong d σ = some (0, σ') ∧ c_m_odd d τ = some (0, τ') ∧ PR σ' τ' f N ∧ σ' fR_bad 0 0 ≠ -1 ∧ fr pcL σ σ' ∧ fr pmL τ τ' := by
  rw [s_r_wrong hd, s_m_odd hd]
  obtain ⟨hR, h | h⟩ := h
  · rw [if_pos h.1, if_pos h.2.1]
    refine ⟨_, _, rfl, rfl, ⟨?_, Or.inr ?_⟩, ?_, fr_u (by decide), fr_trans (fr_u (by decide)) (fr_u (by decide))⟩
    · rw [up_F (F' := fR_p) (by decide), up_F (F' := fM_at) (by decide), up_F (F' := fM_at) (by decide)]; exact hR
    · rw [up_eq, up_F (F' := fM_isBad) (by decide), up_eq, up_eq]
      exact ⟨h.2.2.1, h.2.2.2.1, rfl, h.2.2.2.2⟩
    · rw [up_eq]; omega
  · rw [if_neg (show ¬ σ fR_bad 0 0 = -1 by omega), if_neg (show ¬ τ fM_isBad 0 0 = 0 by omega), up_self]
    exact ⟨_, _, rfl, rfl, ⟨hR, Or.inr h⟩, by omega, fr_refl _ _, fr_refl _ _⟩
/-- the model's next token -/
theorem s_m_isNext {σ τ : ga_S} {f : Int} {N : Nat} (hE : ENV σ τ f N) (h : PR σ τ f N) {d : Nat} (hd : 1 ≤ d) {c : Int} (hc : 0 ≤ c ∧ c < 64) : c_m_isNext d τ (cdM c) = some (b2i (decide (σ fR_bad 0 0 = -1 ∧ σ fT_kinds 0 (σ fR_p 0 0) = c)), τ) := by
  obtain ⟨d, rfl⟩ : ∃ e, d = e + 1 := ⟨d - 1, by omega⟩
  rw [e_m_isNext]
  replace h := h.2
  rcases h with h | h
  · have i := ENV_is hE h.2.2.1 h.2.2.2.1 hc
    have hf := hE.1
    have hN := hE.2.1
    rw [if_pos h.2.1, h.2.2.2.2, ck_ok _ (by omega)]
    by_cases c2 : σ fT_kinds 0 (σ fR_p 0 0) = c
    · rw [if_pos (i.mpr c2), decide_eq_true ⟨h.1, c2⟩]; rfl
    · rw [if_neg (fun z => c2 (i.mp z)), decide_eq_false (fun z => c2 z.2)]; rfl
  · rw [if_neg (by omega), decide_eq_false (fun z => by omega)]; rfl
theorem s_m_look {σ τ : ga_S} {f : Int} {N : Nat} (hE : ENV σ τ f N) (h : PR σ τ f N) {d : Nat} (hd : 1 ≤ d) : c_m_look d τ = some (if σ fR_bad 0 0 = -1 then cdM (σ fT_kinds 0 (σ fR_p 0 0)) else 1, τ) := by
  obtain ⟨d, rfl⟩ : ∃ e, d = e + 1 := ⟨d - 1, by omega⟩
  rw [e_m_look]
  have hf := hE.1
  have hN := hE.2.1
  replace h := h.2
  rcases h with h | h
  · rw [if_pos h.2.1, h.2.2.2.2, ck_ok _ (by omega), if_pos h.1, (hE.2.2.2.1 _ h.2.2.1 h.2.2.2.1).2.2]
  · rw [if_neg (by omega), if_neg (by omega)]
/-- the place goes on by n, on both sides -/
theorem PR_step {σ τ : ga_S} {f : Int} {N : Nat} (h : PR σ τ f N) (hb : σ fR_bad 0 0 = -1) {n : Int} (hn : 0 ≤ n) (hN : σ fR_p 0 0 + n ≤ N) : PR (ga_up σ fR_p 0 0 (σ fR_p 0 0 + n)) (ga_up τ fM_at 0 0 (τ fM_at 0 0 + n)) f N := by
  have h' := h.2.resolve_right (fun z => by omega)
  unfold PR
  rw [up_F (F' := fR_bad) (by decide), up_F (F' := fM_isBad) (by decide), up_eq, up_eq]
  exact ⟨by omega, Or.inl ⟨h'.1, h'.2.1, by omega, hN, by omega⟩⟩
theorem ENV_st {σ σ' τ : ga_S} {f : Int} {N : Nat} (hE : ENV σ τ f N) (kk : σ' fT_kinds = σ fT_kinds) {b : Int} (hb : b ≤ N) : ∀ q, 0 ≤ q → q < b → σ' fT_kinds 0 q ≠ 3 ∧ σ' fT_kinds 0 q ≠ 8 := fun q h0 h1 => by rw [kk]; exact hE.2.2.2.2.2 q h0 (by omega)
/-- a token other than a stop leaves room for the next place -/
theorem ENV_lt {σ τ : ga_S} {f : Int} {N : Nat} (hE : ENV σ τ f N) {k c : Int} (hN : k ≤ N) (hk : σ fT_kinds 0 k = c) (h3 : c ≠ 3) (h8 : c ≠ 8) : k < N := by
  by_cases e : k = N
  · exfalso
    rw [e] at hk
    rcases hE.2.2.2.2.1 with z | z <;> omega
  · omega
/-- a token is taken, on both sides, or it is wrong -/
theorem P_take {σ τ : ga_S} {f : Int} {N : Nat} (hE : ENV σ τ f N) (h : PR σ τ f N) {d : Nat} (hd : 2 ≤ d) {c : Int} (hc : 0 ≤ c ∧ c < 64) (h3 : c ≠ 3) (h8 : c ≠ 8) : ∃ v σ' τ', c_r_take d σ c = some (v, σ') ∧ c_m_take d τ (cdM c) = some (0, τ') ∧ PR σ' τ' f N ∧ fr pcL σ σ' ∧ fr pmL τ τ' ∧ (σ' fR_bad 0 0 = -1 ↔ (σ fR_bad 0 0 = -1 ∧ σ fT_kinds 0 (σ fR_p 0 0) = c)) ∧ (σ' fR_bad 0 0 = -1 → σ' fR_p 0 0 = σ fR_p 0 0 + 1) := by
  obtain ⟨d, rfl⟩ : ∃ e, d = e + 1 := ⟨d - 1, by omega⟩
  have hf := hE.1
  have hN := hE.2.1
  rw [e_r_take, e_m_take, s_m_isNext hE h (by omega) hc]; simp only [Option.bind_some]
  by_cases c1 : σ fR_bad 0 0 = -1 ∧ σ fT_kinds 0 (σ fR_p 0 0) = c
  · have h' := h.2.resolve_right (fun z => by omega)
    have lt := ENV_lt hE h'.2.2.2.1 c1.2 h3 h8
    rw [if_pos c1.1, ck_ok _ (by omega), if_pos c1.2, decide_eq_true c1, if_neg b2i_n, w32_ok (by omega), w32_ok (by omega)]
    refine ⟨_, _, _, rfl, rfl, PR_step h c1.1 (by omega) (by omega), fr_u (by decide), fr_u (by decide), ?_, fun _ => up_eq ..⟩
    rw [up_F (by decide)]
    exact ⟨fun _ => c1, fun _ => c1.1⟩
  · obtain ⟨σ', τ', e1, e2, e3, e4, e5, e6⟩ := P_wrong h (d := d) (by omega)
    have t24 : r_take_24 d σ = some (0, σ') := by rw [e_r_take_24, e1]; simp only [Option.bind_some]; rw [z1_ok _ (by omega)]
    rw [decide_eq_false c1, if_pos b2i_f, e2]; simp only [Option.bind_some]
    refine ⟨0, σ', τ', ?_, rfl, e3, e5, e6, ⟨fun z => absurd z e4, fun z => absurd z c1⟩, fun z => absurd z e4⟩
    by_cases c2 : σ fR_bad 0 0 = -1
    · have h' := h.2.resolve_right (fun z => by omega)
      rw [if_pos c2, ck_ok _ (by omega), if_neg (fun z => c1 ⟨c2, z⟩), t24]
    · rw [if_neg c2, t24]
/-- a token is taken if it stands there -/
theorem s_r_takes {σ τ : ga_S} {f : Int} {N : Nat} (hE : ENV σ τ f N) (h : PR σ τ f N) {d : Nat} (hd : 1 ≤ d) (c : Int) : c_r_takes d σ c = some (b2i (decide (σ fR_bad 0 0 = -1 ∧ σ fT_kinds 0 (σ fR_p 0 0) = c)), if σ fR_bad 0 0 = -1 ∧ σ fT_kinds 0 (σ fR_p 0 0) = c then ga_up σ fR_p 0 0 (σ fR_p 0 0 + 1) else σ) := by
  obtain ⟨d, rfl⟩ : ∃ e, d = e + 1 := ⟨d - 1, by omega⟩
  have hf := hE.1
  have hN := hE.2.1
  have hR := h.1
  have no : r_takes_28 d σ = some (0, σ) := by
    rw [e_r_takes_28, e_r_takes_29, if_pos (by decide), e_r_takes_44, z1_ok _ (by omega), Int.add_zero, w32_ok (by omega), up_self]
  rw [e_r_takes]
  by_cases c1 : σ fR_bad 0 0 = -1
  · have h' := h.2.resolve_right (fun z => by omega)
    rw [if_pos c1, ck_ok _ (by omega)]
    by_cases c2 : σ fT_kinds 0 (σ fR_p 0 0) = c
    · rw [if_pos c2, e_r_takes_29, if_neg (show ¬ (1 : Int) = 0 by decide), e_r_takes_44, z1_ok _ (by omega), decide_eq_true ⟨c1, c2⟩, if_pos ⟨c1, c2⟩, w32_ok (by omega)]; rfl
    · rw [if_neg c2, no, decide_eq_false (fun z => c2 z.2), if_neg (fun z => c2 z.2)]; rfl
  · rw [if_neg c1, no, decide_eq_false (fun z => c1 z.1), if_neg (fun z => c1 z.1)]; rfl

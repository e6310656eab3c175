/-! the first commands -/
def nW (w : List Int) : Int := match w with
  | [] => 0
  | _ :: _ => 1
theorem nW_0 : nW [] = 0 := rfl
theorem nW_1 {w : List Int} (h : w ≠ []) : nW w = 1 := by
  cases w with
  | nil => exact absurd rfl h
  | cons _ _ => rfl
theorem nW_r (w : List Int) : 0 ≤ nW w ∧ nW w ≤ 1 := by
  cases w with
  | nil => exact ⟨by decide, by decide⟩
  | cons _ _ => exact ⟨by show (0 : Int) ≤ 1; decide, Int.le_refl _⟩
/-- command c of the component -/
def CR (σ : ga_S) (c a k : Int) (w : List Int) : Prop := σ fW_commandActions 0 c = a ∧ σ fW_commandKinds 0 c = k ∧ σ fW_commandSlots 0 c = (if k = -1 then -1 else nW w) ∧ σ fW_commandWords 0 c = (if k = -1 then nW w else nW w + 1) ∧ (w ≠ [] → σ fW_commandSize c 0 = (w.length : Int) ∧ 0 ≤ σ fW_commandFrom c 0 ∧ σ fW_commandFrom c 0 + (w.length : Int) ≤ σ fW_commandUsed 0 0 ∧ ∀ j : Int, 0 ≤ j → j < (w.length : Int) → σ fW_commandLetters 0 (σ fW_commandFrom c 0 + j) = w.getD j.toNat 0)
theorem k_fc_t {ρ : ga_S} {k c n : Int} (hc : 0 ≤ c ∧ c < 20) (hn : 0 ≤ n ∧ n ≤ 1) (d : Nat) : w_firstCommand_101 d ρ k c n = some (0, ga_up (ga_up (ga_up ρ fW_commandKinds 0 c k) fW_commandSlots 0 c (if k = -1 then -1 else n)) fW_commandWords 0 c (if k = -1 then n else n + 1)) := by
  rw [e_w_firstCommand_101, ck_ok _ hc]
  by_cases z : k = -1
  · rw [if_pos z, if_pos z, if_pos z, e_w_firstCommand_126, ck_ok _ hc, if_pos z, e_w_firstCommand_147, ck_ok _ hc]
  · rw [if_neg z, if_neg z, if_neg z, e_w_firstCommand_126, ck_ok _ hc, if_neg z, e_w_firstCommand_147, ck_ok _ hc, w32_ok (by omega)]
theorem k_fc_l {str k c u : Int} {w : List Int} (h1 : am_txt str = w) (h2 : isW w) (hu : 0 ≤ u ∧ u + (w.length : Int) ≤ 3000) {d : Nat} (hd : 1 ≤ d) : ∀ (m i : Nat), i + m = w.length → ∀ ρ : ga_S, ρ fW_commandUsed 0 0 = u + i → ∃ ρ', w_firstCommand_60 d ρ str k c i = w_firstCommand_101 d ρ' k c 1 ∧ fr [fW_commandUsed, fW_commandLetters] ρ ρ' ∧ ρ' fW_commandUsed 0 0 = u + (w.length : Int) ∧ ∀ x, ρ' fW_commandLetters 0 x = if u + i ≤ x ∧ x < u + (w.length : Int) then w.getD (x - u).toNat 0 else ρ fW_commandLetters 0 x := by
  have ln : am_len str = (w.length : Int) := by unfold am_len; rw [h1]
  intro m
  induction m with
  | zero =>
    intro i hi ρ e
    refine ⟨ρ, ?_, fr_refl _ _, by omega, fun x => ?_⟩
    · rw [e_w_firstCommand_60, s_p_len hd]
      simp only [Option.bind_some]
      rw [ln, if_neg (by omega)]
    · rw [if_neg (by omega)]
  | succ m ih =>
    intro i hi ρ e
    have hj : i < w.length := by omega
    have hc := h2 _ (List.getElem_mem hj)
    have ck : am_chr str i = w.getD i 0 := by
      unfold am_chr
      rw [h1, show ((i : Int)).toNat = i by omega]
    have cg : w.getD i 0 = w[i] := by simp [List.getD, hj]
    obtain ⟨ρ1, e1⟩ : ∃ x, x = ga_up (ga_up ρ fW_commandUsed 0 0 (u + ((i + 1 : Nat) : Int))) fW_commandLetters 0 (u + i) (w.getD i 0) := ⟨_, rfl⟩
    obtain ⟨ρ', a1, a2, a3, a4⟩ := ih (i + 1) (by omega) ρ1 (by rw [e1, up_F (by decide), up_eq])
    have f1 : fr [fW_commandUsed, fW_commandLetters] ρ ρ1 := by rw [e1]; exact fr_trans (fr_u (by decide)) (fr_u (by decide))
    refine ⟨ρ', ?_, fr_trans f1 a2, a3, fun x => ?_⟩
    · rw [e_w_firstCommand_60, s_p_len hd]
      simp only [Option.bind_some]
      rw [ln, if_pos (by omega), s_p_chr hd _ _ _ (by rw [ln]; omega)]
      simp only [Option.bind_some]
      rw [e, ck_ok _ (by omega), ck, cg, w8_w hc, w8_w hc, ← cg, w32_ok (x := u + i + 1) (by omega), w32_ok (x := (i : Int) + 1) (by omega), show (i : Int) + 1 = ((i + 1 : Nat) : Int) by push_cast; rfl, show u + (i : Int) + 1 = u + ((i + 1 : Nat) : Int) by push_cast; omega, ← e1]
      exact a1
    · rw [a4, e1, up_at, up_F (by decide)]
      by_cases c1 : x = u + i
      · rw [if_neg (by push_cast; omega), if_pos c1, if_pos (by omega), c1, show (u + (i : Int) - u).toNat = i by omega]
      · by_cases c2 : u + ((i + 1 : Nat) : Int) ≤ x ∧ x < u + (w.length : Int)
        · rw [if_pos c2, if_pos (by push_cast at c2; omega)]
        · rw [if_neg c2, if_neg c1, if_neg (by push_cast at c2; omega)]
theorem k_fc {σ : ga_S} {c c1 u str a k : Int} {w : List Int} (h1 : am_txt str = w) (h2 : isW w) (hc : σ fW_commands 0 0 = c) (hC : 0 ≤ c ∧ c < 20) (hn : c + 1 = c1) (hu : σ fW_commandUsed 0 0 = u) (hU : 0 ≤ u ∧ u + (w.length : Int) ≤ 3000) {d : Nat} (hd : 2 ≤ d) : ∃ σ', c_w_firstCommand d σ str a k = some (0, σ') ∧ fr cwL σ σ' ∧ σ' fW_commands 0 0 = c1 ∧ σ' fW_commandUsed 0 0 = u + (w.length : Int) ∧ CR σ' c a k w ∧ ∀ c' a' k' w', c' ≠ c → CR σ c' a' k' w' → CR σ' c' a' k' w' := by
  obtain ⟨d, rfl⟩ : ∃ e, d = e + 1 := ⟨d - 1, by omega⟩
  have ln : am_len str = (w.length : Int) := by unfold am_len; rw [h1]
  obtain ⟨ρ1, e1⟩ : ∃ x, x = ga_up (ga_up σ fW_commands 0 0 c1) fW_commandActions 0 c a := ⟨_, rfl⟩
  have f1 : fr [fW_commands, fW_commandActions] σ ρ1 := by rw [e1]; exact fr_trans (fr_u (by decide)) (fr_u (by decide))
  have run := e_w_firstCommand d σ str a k
  rw [hc, ck_ok _ hC, w32_ok (x := c + 1) (by omega), hn, ← e1, s_p_len (by omega)] at run
  simp only [Option.bind_some] at run
  rw [ln] at run
  have ac : ∀ i, ρ1 fW_commandActions 0 i = if i = c then a else σ fW_commandActions 0 i := fun i => by rw [e1, up_at, up_F (by decide)]
  have cm : ρ1 fW_commands 0 0 = c1 := by rw [e1, up_F (by decide), up_eq]
  have u1 : ρ1 fW_commandUsed 0 0 = u := by rw [f1 _ (by decide)]; exact hu
  -- what is written ahead of the end
  have mid : ∃ ρ, c_w_firstCommand (d + 1) σ str a k = w_firstCommand_101 d ρ k c (nW w) ∧ fr [fW_commandFrom, fW_commandSize, fW_commandUsed, fW_commandLetters] ρ1 ρ ∧ ρ fW_commandUsed 0 0 = u + (w.length : Int) ∧ (w ≠ [] → ρ fW_commandFrom c 0 = u ∧ ρ fW_commandSize c 0 = (w.length : Int)) ∧ (∀ c', c' ≠ c → ρ fW_commandFrom c' = σ fW_commandFrom c' ∧ ρ fW_commandSize c' = σ fW_commandSize c') ∧ ∀ x, ρ fW_commandLetters 0 x = if u ≤ x ∧ x < u + (w.length : Int) then w.getD (x - u).toNat 0 else σ fW_commandLetters 0 x := by
    by_cases z : w = []
    · subst z
      rw [if_neg (by decide)] at run
      refine ⟨ρ1, run, fr_refl _ _, by rw [u1]; show u = u + 0; omega, fun y => absurd rfl y, fun c' _ => ⟨by rw [f1 _ (by decide)], by rw [f1 _ (by decide)]⟩, fun x => ?_⟩
      rw [if_neg (by show ¬ (u ≤ x ∧ x < u + 0); omega), f1 _ (by decide)]
    · have lp : 0 < w.length := List.length_pos_iff.mpr z
      rw [if_pos (by omega), ck_ok _ hC, nn_ok _ hC.1, ck_ok _ hC, u1, s_p_len (by omega)] at run
      simp only [Option.bind_some] at run
      rw [nn_ok _ hC.1, ln] at run
      obtain ⟨ρ3, e3⟩ : ∃ x, x = ga_up (ga_up ρ1 fW_commandFrom c 0 u) fW_commandSize c 0 (w.length : Int) := ⟨_, rfl⟩
      rw [← e3] at run
      have f3 : fr [fW_commandFrom, fW_commandSize] ρ1 ρ3 := by rw [e3]; exact fr_trans (fr_u (by decide)) (fr_u (by decide))
      obtain ⟨ρ, a1, a2, a3, a4⟩ := k_fc_l (k := k) (c := c) h1 h2 hU (d := d) (by omega) w.length 0 (by omega) ρ3 (by rw [f3 _ (by decide), u1]; simp)
      rw [show ((0 : Nat) : Int) = 0 from rfl, Int.add_zero] at a4
      rw [show ((0 : Nat) : Int) = 0 from rfl] at a1
      refine ⟨ρ, ?_, fr_trans (fr_sub f3 (by decide)) (fr_sub a2 (by decide)), a3, fun _ => ⟨?_, ?_⟩, fun c' hc' => ⟨?_, ?_⟩, fun x => ?_⟩
      · rw [nW_1 z, run]; exact a1
      · rw [a2 _ (by decide), e3, up_F (by decide), up_eq]
      · rw [a2 _ (by decide), e3, up_eq]
      · rw [a2 _ (by decide), e3, up_F (by decide), up_n hc', f1 _ (by decide)]
      · rw [a2 _ (by decide), e3, up_n hc', up_F (by decide), f1 _ (by decide)]
      · rw [a4, f3 _ (by decide), f1 _ (by decide)]
  obtain ⟨ρ, m1, m2, m3, m4, m5, m6⟩ := mid
  rw [k_fc_t hC (nW_r w)] at m1
  obtain ⟨σ', e'⟩ : ∃ x, x = ga_up (ga_up (ga_up ρ fW_commandKinds 0 c k) fW_commandSlots 0 c (if k = -1 then -1 else nW w)) fW_commandWords 0 c (if k = -1 then nW w else nW w + 1) := ⟨_, rfl⟩
  rw [← e'] at m1
  have f' : fr [fW_commandKinds, fW_commandSlots, fW_commandWords] ρ σ' := by rw [e']; exact fr_trans (fr_u (by decide)) (fr_trans (fr_u (by decide)) (fr_u (by decide)))
  have gF : σ' fW_commandFrom = ρ fW_commandFrom := f' _ (by decide)
  have gS : σ' fW_commandSize = ρ fW_commandSize := f' _ (by decide)
  have gU : σ' fW_commandUsed = ρ fW_commandUsed := f' _ (by decide)
  have gL : σ' fW_commandLetters = ρ fW_commandLetters := f' _ (by decide)
  have gA : ∀ i, σ' fW_commandActions 0 i = if i = c then a else σ fW_commandActions 0 i := fun i => by rw [f' _ (by decide), m2 _ (by decide)]; exact ac i
  have gK : ∀ i, σ' fW_commandKinds 0 i = if i = c then k else σ fW_commandKinds 0 i := fun i => by rw [e', up_F (by decide), up_F (by decide), up_at, m2 _ (by decide), f1 _ (by decide)]
  have gT : ∀ i, σ' fW_commandSlots 0 i = if i = c then (if k = -1 then -1 else nW w) else σ fW_commandSlots 0 i := fun i => by rw [e', up_F (by decide), up_at, up_F (by decide), m2 _ (by decide), f1 _ (by decide)]
  have gW : ∀ i, σ' fW_commandWords 0 i = if i = c then (if k = -1 then nW w else nW w + 1) else σ fW_commandWords 0 i := fun i => by rw [e', up_at, up_F (by decide), up_F (by decide), m2 _ (by decide), f1 _ (by decide)]
  refine ⟨σ', m1, fr_trans (fr_sub f1 (by decide)) (fr_trans (fr_sub m2 (by decide)) (fr_sub f' (by decide))), by rw [f' _ (by decide), m2 _ (by decide)]; exact cm, by rw [gU]; exact m3, ?_, ?_⟩
  · refine ⟨by rw [gA, if_pos rfl], by rw [gK, if_pos rfl], by rw [gT, if_pos rfl], by rw [gW, if_pos rfl], fun z => ?_⟩
    have q := m4 z
    rw [gS, gF, gU, gL, q.1, q.2, m3]
    refine ⟨rfl, hU.1, Int.le_refl _, fun j j0 j1 => ?_⟩
    rw [m6, if_pos (by omega), show (u + j - u).toNat = j.toNat by omega]
  · intro c' a' k' w' hc' H
    obtain ⟨q1, q2, q3, q4, q5⟩ := H
    refine ⟨by rw [gA, if_neg hc']; exact q1, by rw [gK, if_neg hc']; exact q2, by rw [gT, if_neg hc']; exact q3, by rw [gW, if_neg hc']; exact q4, fun z => ?_⟩
    obtain ⟨y1, y2, y3, y4⟩ := q5 z
    rw [gS, gF, gU, gL, (m5 c' hc').1, (m5 c' hc').2, m3]
    rw [hu] at y3
    refine ⟨y1, y2, by omega, fun j j0 j1 => ?_⟩
    rw [m6, if_neg (by omega)]
    exact y4 j j0 j1
/-- command c of the model -/
def CRM (τ : ga_S) (c a k : Int) (w : List Int) : Prop := τ fM_commandAction 0 c = a ∧ τ fM_commandKind 0 c = k ∧ τ fM_commandSize 0 c = (if k = -1 then nW w else nW w + 1) ∧ (w ≠ [] → τ fM_commandWord 0 (8 * c) = pack w) ∧ (k ≠ -1 → τ fM_commandWord 0 (8 * c + nW w) = 0)
theorem m_fc {τ : ga_S} {c c1 str a k : Int} {w : List Int} (h1 : am_txt str = w) (h2 : isW w) (h12 : w.length ≤ 12) (hc : τ fM_commands 0 0 = c) (hC : 0 ≤ c ∧ c < 20) (hn : c + 1 = c1) {d : Nat} (hd : 3 ≤ d) : ∃ τ', c_m_firstCommand d τ a str k = some (0, τ') ∧ fr cwM τ τ' ∧ τ' fM_commands 0 0 = c1 ∧ CRM τ' c a k w ∧ ∀ c' a' k' w', c' ≠ c → CRM τ c' a' k' w' → CRM τ' c' a' k' w' := by
  obtain ⟨d, rfl⟩ : ∃ e, d = e + 1 := ⟨d - 1, by omega⟩
  have ln : am_len str = (w.length : Int) := by unfold am_len; rw [h1]
  obtain ⟨ρ1, e1⟩ : ∃ x, x = ga_up τ fM_commandAction 0 c a := ⟨_, rfl⟩
  have f1 : fr [fM_commandAction] τ ρ1 := by rw [e1]; exact fr_u (by decide)
  have run := e_m_firstCommand d τ a str k
  rw [hc, ck_ok _ hC, ← e1, s_p_len (by omega)] at run
  simp only [Option.bind_some] at run
  rw [ln, w32_ok (x := 8 * c) (by omega)] at run
  have ac : ∀ i, ρ1 fM_commandAction 0 i = if i = c then a else τ fM_commandAction 0 i := fun i => by rw [e1, up_at]
  have nr := nW_r w
  have mid : ∃ ρ, c_m_firstCommand (d + 1) τ a str k = m_firstCommand_41 d ρ k c (nW w) ∧ fr [fM_commandWord] ρ1 ρ ∧ (w ≠ [] → ρ fM_commandWord 0 (8 * c) = pack w) ∧ ∀ x, x ≠ 8 * c → ρ fM_commandWord 0 x = τ fM_commandWord 0 x := by
    by_cases z : w = []
    · subst z
      rw [if_neg (by decide)] at run
      exact ⟨ρ1, run, fr_refl _ _, fun y => absurd rfl y, fun x _ => by rw [f1 _ (by decide)]⟩
    · have lp : 0 < w.length := List.length_pos_iff.mpr z
      rw [if_pos (by omega), m_packS h1 h2 h12 (by omega)] at run
      simp only [Option.bind_some] at run
      rw [ck_ok _ (by omega)] at run
      exact ⟨_, by rw [nW_1 z]; exact run, fr_u (by decide), fun _ => by rw [up_eq], fun x hx => by rw [up_i hx, f1 _ (by decide)]⟩
  obtain ⟨ρ, m1, m2, m3, m4⟩ := mid
  have fin : ∃ ρ2 n, m_firstCommand_41 d ρ k c (nW w) = m_firstCommand_63 d ρ2 k c n ∧ n = (if k = -1 then nW w else nW w + 1) ∧ fr [fM_commandWord] ρ ρ2 ∧ (k ≠ -1 → ρ2 fM_commandWord 0 (8 * c + nW w) = 0) ∧ ∀ x, (k ≠ -1 → x ≠ 8 * c + nW w) → ρ2 fM_commandWord 0 x = ρ fM_commandWord 0 x := by
    by_cases z : k = -1
    · exact ⟨ρ, nW w, by rw [e_m_firstCommand_41, if_pos z], by rw [if_pos z], fr_refl _ _, fun y => absurd z y, fun x _ => rfl⟩
    · refine ⟨ga_up ρ fM_commandWord 0 (8 * c + nW w) 0, nW w + 1, ?_, by rw [if_neg z], fr_u (by decide), fun _ => by rw [up_eq], fun x hx => by rw [up_i (hx z)]⟩
      rw [e_m_firstCommand_41, if_neg z, w32_ok (x := 8 * c) (by omega), w32_ok (x := 8 * c + nW w) (by omega), ck_ok _ (by omega), w32_ok (by omega)]
  obtain ⟨ρ2, n, n1, n2, n3, n4, n5⟩ := fin
  have cc : ρ2 fM_commands 0 0 = c := by rw [n3 _ (by decide), m2 _ (by decide), f1 _ (by decide)]; exact hc
  obtain ⟨τ', e'⟩ : ∃ x, x = ga_up (ga_up (ga_up ρ2 fM_commandSize 0 c n) fM_commandKind 0 c k) fM_commands 0 0 c1 := ⟨_, rfl⟩
  have f' : fr [fM_commandSize, fM_commandKind, fM_commands] ρ2 τ' := by rw [e']; exact fr_trans (fr_u (by decide)) (fr_trans (fr_u (by decide)) (fr_u (by decide)))
  have gW : τ' fM_commandWord = ρ2 fM_commandWord := f' _ (by decide)
  have gA : ∀ i, τ' fM_commandAction 0 i = if i = c then a else τ fM_commandAction 0 i := fun i => by rw [f' _ (by decide), n3 _ (by decide), m2 _ (by decide)]; exact ac i
  have gK : ∀ i, τ' fM_commandKind 0 i = if i = c then k else τ fM_commandKind 0 i := fun i => by rw [e', up_F (by decide), up_at, up_F (by decide), n3 _ (by decide), m2 _ (by decide), f1 _ (by decide)]
  have gS : ∀ i, τ' fM_commandSize 0 i = if i = c then n else τ fM_commandSize 0 i := fun i => by rw [e', up_F (by decide), up_F (by decide), up_at, n3 _ (by decide), m2 _ (by decide), f1 _ (by decide)]
  refine ⟨τ', ?_, fr_trans (fr_sub f1 (by decide)) (fr_trans (fr_sub m2 (by decide)) (fr_trans (fr_sub n3 (by decide)) (fr_sub f' (by decide)))), by rw [e', up_eq], ?_, ?_⟩
  · rw [m1, n1, e_m_firstCommand_63, ck_ok _ hC, ck_ok _ hC, cc, w32_ok (x := c + 1) (by omega), hn, ← e']
  · refine ⟨by rw [gA, if_pos rfl], by rw [gK, if_pos rfl], by rw [gS, if_pos rfl]; exact n2, fun z => ?_, fun z => by rw [gW]; exact n4 z⟩
    rw [gW, n5 _ (fun _ => by rw [nW_1 z]; omega)]
    exact m3 z
  · intro c' a' k' w' hc' H
    obtain ⟨q1, q2, q3, q4, q5⟩ := H
    have nr' := nW_r w'
    refine ⟨by rw [gA, if_neg hc']; exact q1, by rw [gK, if_neg hc']; exact q2, by rw [gS, if_neg hc']; exact q3, fun z => ?_, fun z => ?_⟩
    · rw [gW, n5 _ (fun _ => by omega), m4 _ (by omega)]; exact q4 z
    · rw [gW, n5 _ (fun _ => by omega), m4 _ (by omega)]; exact q5 z

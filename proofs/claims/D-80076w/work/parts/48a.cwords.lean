/-! the words of a command, on both sides -/
section
variable {σ τ : ga_S}
theorem s_m_wordT_5 {τ : ga_S} {d : Nat} (hd : 2 ≤ d) {p n : Int} (h0 : 0 ≤ p) (hn : n ≤ 12) (hp : p + n ≤ 5000) (hl : ∀ q, p ≤ q → q < p + n → isLt (τ fM_tape 0 q) = true) : ∀ i, 0 ≤ i → i ≤ n → m_wordOf_tape_5 d τ p n (pack (wdB (τ fM_tape 0) p i)) i = some (pack (wdB (τ fM_tape 0) p n), τ) := by
  refine rg_ind (n := n) ?_ ?_
  · intro i h h1 h2
    have e : i = n := by omega
    rw [e_m_wordOf_tape_5, if_neg (by omega), e]
  · intro i h ih h1 h2
    have hc := hl (p + i) (by omega) (by omega)
    have hc2 : 97 ≤ lowB (τ fM_tape 0 (p + i)) ∧ lowB (τ fM_tape 0 (p + i)) ≤ 122 := of_decide_eq_true hc
    have hw : isW (wdB (τ fM_tape 0) p i) := wdB_W (fun q a b => hl q a (by omega))
    have hlen := wdB_len (B := τ fM_tape 0) (p := p) (n := i) h1
    have hb := pack_11 hw (by omega)
    have hb0 := (pack_lt hw).1
    rw [e_m_wordOf_tape_5, if_pos h, w32_ok (by omega), ck_ok _ (by omega), s_m_small hd]; simp only [Option.bind_some]; rw [w32_ok (by omega), w32_ok (by omega), lor5 hb0 (by omega) (by omega) (by omega)]
    have e : 32 * pack (wdB (τ fM_tape 0) p i) + (lowB (τ fM_tape 0 (p + i)) - 96) = pack (wdB (τ fM_tape 0) p (i + 1)) := by
      have e2 : wdB (τ fM_tape 0) p (i + 1) = wdB (τ fM_tape 0) p i ++ [lowB (τ fM_tape 0 (p + i))] := by
        unfold wdB; rw [rg_snoc 0 h1, List.map_append]; rfl
      rw [e2]; unfold pack; rw [packF_app]; rfl
    rw [e, ih (by omega) (by omega)]
theorem s_m_wordT {τ : ga_S} {d : Nat} (hd : 3 ≤ d) {p n : Int} (h0 : 0 ≤ p) (hn0 : 0 ≤ n) (hn : n ≤ 12) (hp : p + n ≤ 5000) (hl : ∀ q, p ≤ q → q < p + n → isLt (τ fM_tape 0 q) = true) : c_m_wordOf_tape d τ p n = some (pack (wdB (τ fM_tape 0) p n), τ) := by
  obtain ⟨d, rfl⟩ : ∃ e, d = e + 1 := ⟨d - 1, by omega⟩
  have e := s_m_wordT_5 (τ := τ) (d := d) (by omega) h0 hn hp hl 0 (by omega) hn0
  have e0 : wdB (τ fM_tape 0) p 0 = [] := by unfold wdB; rw [rg_n (by omega)]; rfl
  rw [e0] at e
  rw [e_m_wordOf_tape]; exact e
theorem k_xlow {i : Int} (hi : 0 ≤ i ∧ i < 5000) (hb : -128 ≤ σ fX_tape 0 i ∧ σ fX_tape 0 i < 128) {d : Nat} (hd : 1 ≤ d) : c_x_low d σ i = some (lowB (σ fX_tape 0 i), σ) := by
  obtain ⟨d, rfl⟩ : ∃ e, d = e + 1 := ⟨d - 1, by omega⟩
  unfold lowB
  rw [e_x_low, ck_ok _ hi]
  by_cases c1 : σ fX_tape 0 i < 65
  · rw [if_pos c1, if_neg (by omega)]
  · rw [if_neg c1]
    by_cases c2 : 90 < σ fX_tape 0 i
    · rw [if_pos c2, if_neg (by omega)]
    · rw [if_neg c2, if_pos (by omega), w32_ok (by omega)]
/-- the component's words -/
def vW (σ : ga_S) (B : Int → Int) (k : Int) : List Int := wdB B (σ fX_wordFrom 0 k) (σ fX_wordTo 0 k - σ fX_wordFrom 0 k)
def CS (σ : ga_S) (B : Int → Int) (N : Int) : Prop := σ fX_wordCount 0 0 = N ∧ (0 ≤ N ∧ N ≤ 50) ∧ ∀ k, 0 ≤ k → k < N → 0 ≤ σ fX_wordFrom 0 k ∧ σ fX_wordFrom 0 k < σ fX_wordTo 0 k ∧ σ fX_wordTo 0 k ≤ 5000 ∧ ∀ q, σ fX_wordFrom 0 k ≤ q → q < σ fX_wordTo 0 k → isLt (B q) = true
def MS (σ τ : ga_S) (B : Int → Int) (N : Int) : Prop := τ fM_saids 0 0 = N ∧ ∀ k, 0 ≤ k → k < N → τ fM_said 0 k = pack (vW σ B k) ∧ σ fX_wordTo 0 k - σ fX_wordFrom 0 k ≤ 12
def wdC : List Nat := [fX_wordFrom, fX_wordTo, fX_wordCount]
def wdM : List Nat := [fM_said, fM_saids]
theorem CS_more {B : Int → Int} {N p e : Int} (h : CS σ B N) (hN : N < 50) (hp : 0 ≤ p ∧ p < e ∧ e ≤ 5000) (hl : ∀ q, p ≤ q → q < e → isLt (B q) = true) {σ1 : ga_S} (e1 : σ1 = ga_up (ga_up (ga_up σ fX_wordFrom 0 N p) fX_wordTo 0 N e) fX_wordCount 0 0 (N + 1)) : CS σ1 B (N + 1) ∧ (∀ k, k < N → σ1 fX_wordFrom 0 k = σ fX_wordFrom 0 k ∧ σ1 fX_wordTo 0 k = σ fX_wordTo 0 k) ∧ σ1 fX_wordFrom 0 N = p ∧ σ1 fX_wordTo 0 N = e := by
  have x1 : ∀ k, σ1 fX_wordFrom 0 k = if k = N then p else σ fX_wordFrom 0 k := fun k => by rw [e1, up_F (by decide), up_F (by decide), up_at]
  have x2 : ∀ k, σ1 fX_wordTo 0 k = if k = N then e else σ fX_wordTo 0 k := fun k => by rw [e1, up_F (by decide), up_at, up_F (by decide)]
  obtain ⟨h1, h2, h3⟩ := h
  refine ⟨⟨by rw [e1, up_eq], by omega, fun k k0 k1 => ?_⟩, fun k hk => ?_, by rw [x1, if_pos rfl], by rw [x2, if_pos rfl]⟩
  · rw [x1, x2]
    by_cases c : k = N
    · rw [if_pos c, if_pos c]; exact ⟨hp.1, hp.2.1, hp.2.2, hl⟩
    · rw [if_neg c, if_neg c]; exact h3 k k0 (by omega)
  · rw [x1, x2, if_neg (by omega), if_neg (by omega)]; exact ⟨rfl, rfl⟩
theorem k_w34 {B : Int → Int} {n p : Int} (hn : n ≤ 5000) (eB : σ fX_tape 0 = B) (eN : σ fX_taped 0 0 = n) (hb : ∀ i, -128 ≤ B i ∧ B i < 128) {d : Nat} (hd : 1 ≤ d) : ∀ q, 0 ≤ q → x_isWords_34 d σ p q = x_isWords_59 d σ p (wEnd B n q) := by
  refine pos_ind n fun q ih h0 => ?_
  rw [e_x_isWords_34, eN]
  unfold wEnd
  by_cases y : q < n
  · rw [if_pos y, k_xlow (by omega) (by rw [eB]; exact hb q) hd, Option.bind_some]
    show ((c_t_isLetter d σ (lowB (σ fX_tape 0 q))).bind fun q2 => if q2.1 = 0 then x_isWords_59 d q2.2 p q else x_isWords_34 d q2.2 p (w32 (q + 1))) = _
    rw [s_t_isLetter hd, Option.bind_some, eB]
    by_cases z : isLt (B q) = true
    · have z' : 97 ≤ lowB (B q) ∧ lowB (B q) ≤ 122 := of_decide_eq_true z
      rw [decide_eq_true z']
      refine (if_neg b2i_n).trans ?_
      show x_isWords_34 d σ p (w32 (q + 1)) = _
      rw [w32_ok (by omega), ih (q + 1) (by omega) y (by omega), sk_s (f := fun q => isLt (B q)) y z]; rfl
    · have z0 : isLt (B q) = false := by cases h : isLt (B q) with | true => exact absurd h z | false => rfl
      have z' : ¬ (97 ≤ lowB (B q) ∧ lowB (B q) ≤ 122) := of_decide_eq_false z0
      rw [decide_eq_false z']
      refine (if_pos b2i_f).trans ?_
      rw [sk_x (f := fun q => isLt (B q)) y z0]
  · rw [if_neg y, sk_n (by omega)]
theorem m_w34 {B : Int → Int} {n p : Int} (hn : n ≤ 5000) (eB : τ fM_tape 0 = B) (eN : τ fM_size 0 0 = n) {d : Nat} (hd : 3 ≤ d) : ∀ q, 0 ≤ q → m_isSaid_34 d τ p q = m_isSaid_60 d τ p (wEnd B n q) := by
  refine pos_ind n fun q ih h0 => ?_
  rw [e_m_isSaid_34, eN]
  unfold wEnd
  by_cases y : q < n
  · rw [if_pos y, ck_ok _ (by omega), s_m_isLetter hd, Option.bind_some, eB]
    by_cases z : isLt (B q) = true
    · rw [z]
      refine (if_neg b2i_n).trans ?_
      show m_isSaid_34 d τ p (w32 (q + 1)) = _
      rw [w32_ok (by omega), ih (q + 1) (by omega) y (by omega), sk_s (f := fun q => isLt (B q)) y z]; rfl
    · have z0 : isLt (B q) = false := by cases h : isLt (B q) with | true => exact absurd h z | false => rfl
      rw [z0]
      refine (if_pos b2i_f).trans ?_
      rw [sk_x (f := fun q => isLt (B q)) y z0]
  · rw [if_neg y, sk_n (by omega)]
/-- the component alone -/
theorem kw_l {B : Int → Int} {n : Int} (hn : n ≤ 5000) (hb : ∀ i, -128 ≤ B i ∧ B i < 128) {d : Nat} (hd : 1 ≤ d) : ∀ p, 0 ≤ p → ∀ (σ : ga_S) (N : Int), σ fX_tape 0 = B → σ fX_taped 0 0 = n → CS σ B N → ∃ b σ', x_isWords_7 d σ p = some (b2i b, σ') ∧ fr wdC σ σ' ∧ (b = true → ∃ N', N ≤ N' ∧ CS σ' B N' ∧ ∀ k, k < N → σ' fX_wordFrom 0 k = σ fX_wordFrom 0 k ∧ σ' fX_wordTo 0 k = σ fX_wordTo 0 k) := by
  refine pos_ind n fun p ih h0 σ N eB eN S => ?_
  rw [e_x_isWords_7, eN]
  by_cases y : p < n
  · rw [if_pos y, ck_ok _ (by omega), eB]
    by_cases s : B p = 32
    · rw [if_pos s, w32_ok (by omega)]
      exact ih (p + 1) (by omega) y (by omega) σ N eB eN S
    · rw [if_neg s, k_w34 hn eB eN hb hd p h0, e_x_isWords_59]
      by_cases l : isLt (B p) = true
      · have g := wEnd_g y l
        obtain ⟨e, ee⟩ : ∃ e, e = wEnd B n p := ⟨_, rfl⟩
        rw [← ee] at g ⊢
        rw [if_neg (by omega), S.1]
        by_cases c50 : N = 50
        · rw [if_pos c50]
          exact ⟨false, σ, rfl, fr_refl _ _, fun z => by cases z⟩
        · rw [if_neg c50, eN, eB]
          have S2 := S.2.1
          have r94 : ∃ b σ', x_isWords_94 d σ p e = some (b2i b, σ') ∧ fr wdC σ σ' ∧ (b = true → ∃ N', N ≤ N' ∧ CS σ' B N' ∧ ∀ k, k < N → σ' fX_wordFrom 0 k = σ fX_wordFrom 0 k ∧ σ' fX_wordTo 0 k = σ fX_wordTo 0 k) := by
            obtain ⟨σ1, e1⟩ : ∃ z, z = ga_up (ga_up (ga_up σ fX_wordFrom 0 N p) fX_wordTo 0 N e) fX_wordCount 0 0 (N + 1) := ⟨_, rfl⟩
            have f1 : fr wdC σ σ1 := by rw [e1]; exact fr_trans (fr_u (by decide)) (fr_trans (fr_u (by decide)) (fr_u (by decide)))
            obtain ⟨S1, k1, _⟩ := CS_more S (by omega) ⟨h0, g.1, by omega⟩ g.2.2 e1
            obtain ⟨b, σ', c1, c2, c3⟩ := ih e (by omega) y (by omega) σ1 (N + 1) (by rw [f1 _ (by decide)]; exact eB) (by rw [f1 _ (by decide)]; exact eN) S1
            refine ⟨b, σ', ?_, fr_trans f1 c2, fun hb => ?_⟩
            · rw [e_x_isWords_94, S.1, ck_ok _ (by omega), ck_ok _ (by omega), w32_ok (by omega), ← e1]; exact c1
            · obtain ⟨N', n1, n2, n3⟩ := c3 hb
              exact ⟨N', by omega, n2, fun k hk => ⟨(n3 k (by omega)).1.trans (k1 k hk).1, (n3 k (by omega)).2.trans (k1 k hk).2⟩⟩
          by_cases ce : e < n
          · rw [if_pos ce, ck_ok _ (by omega)]
            by_cases s2 : B e = 32
            · rw [if_pos s2]; exact r94
            · rw [if_neg s2]
              exact ⟨false, σ, rfl, fr_refl _ _, fun z => by cases z⟩
          · rw [if_neg ce]; exact r94
      · have e0 : wEnd B n p = p := by
          unfold wEnd
          exact sk_x y (by cases h : isLt (B p) with | true => exact absurd h l | false => rfl)
        rw [e0, if_pos rfl]
        exact ⟨false, σ, rfl, fr_refl _ _, fun z => by cases z⟩
  · rw [if_neg y]
    exact ⟨true, σ, rfl, fr_refl _ _, fun _ => ⟨N, Int.le_refl _, S, fun _ _ => ⟨rfl, rfl⟩⟩⟩
/-- both: the model also ends where a word is too long -/
theorem ws_l {B : Int → Int} {n : Int} (hn : n ≤ 5000) (hb : ∀ i, -128 ≤ B i ∧ B i < 128) {d d' : Nat} (hd : 1 ≤ d) (hd' : 3 ≤ d') : ∀ p, 0 ≤ p → ∀ (σ τ : ga_S) (N : Int), σ fX_tape 0 = B → σ fX_taped 0 0 = n → τ fM_tape 0 = B → τ fM_size 0 0 = n → CS σ B N → MS σ τ B N → ∃ b b' σ' τ', x_isWords_7 d σ p = some (b2i b, σ') ∧ m_isSaid_7 d' τ p = some (b2i b', τ') ∧ fr wdC σ σ' ∧ fr wdM τ τ' ∧ (b' = true → b = true ∧ ∃ N', CS σ' B N' ∧ MS σ' τ' B N') ∧ (b = true → ∃ N', CS σ' B N' ∧ (b' = false → ∃ k, 0 ≤ k ∧ k < N' ∧ 12 < σ' fX_wordTo 0 k - σ' fX_wordFrom 0 k)) := by
  refine pos_ind n fun p ih h0 σ τ N eB eN tB tN S M => ?_
  have S2 := S.2.1
  have rC7 := e_x_isWords_7 d σ p
  have rM7 := e_m_isSaid_7 d' τ p
  rw [eN] at rC7
  rw [tN] at rM7
  by_cases y : p < n
  · rw [if_pos y, ck_ok _ (by omega), eB] at rC7
    rw [if_pos y, ck_ok _ (by omega), tB] at rM7
    by_cases s : B p = 32
    · rw [if_pos s, w32_ok (by omega)] at rC7 rM7
      rw [rC7, rM7]
      exact ih (p + 1) (by omega) y (by omega) σ τ N eB eN tB tN S M
    · rw [if_neg s, k_w34 hn eB eN hb hd p h0, e_x_isWords_59] at rC7
      rw [if_neg s, m_w34 hn tB tN hd' p h0, e_m_isSaid_60] at rM7
      have both0 : x_isWords_7 d σ p = some (0, σ) → ∀ τ', m_isSaid_7 d' τ p = some (0, τ') → fr wdM τ τ' → ∃ b b' σ' τ', x_isWords_7 d σ p = some (b2i b, σ') ∧ m_isSaid_7 d' τ p = some (b2i b', τ') ∧ fr wdC σ σ' ∧ fr wdM τ τ' ∧ (b' = true → b = true ∧ ∃ N', CS σ' B N' ∧ MS σ' τ' B N') ∧ (b = true → ∃ N', CS σ' B N' ∧ (b' = false → ∃ k, 0 ≤ k ∧ k < N' ∧ 12 < σ' fX_wordTo 0 k - σ' fX_wordFrom 0 k)) := fun r1 τ' r2 f2 => ⟨false, false, σ, τ', r1, r2, fr_refl _ _, f2, fun z => (by cases z), fun z => by cases z⟩
      by_cases l : isLt (B p) = true
      · have g := wEnd_g y l
        have gs := sk_all (f := fun q => isLt (B q)) (n := n) p
        have eg : sk (fun q => isLt (B q)) n p = wEnd B n p := rfl
        rw [eg] at gs
        obtain ⟨e, ee⟩ : ∃ e, e = wEnd B n p := ⟨_, rfl⟩
        rw [← ee] at g gs rC7 rM7
        rw [if_neg (by omega), S.1] at rC7
        rw [if_neg (by omega), w32_ok (x := e - p) (by omega), M.1] at rM7
        by_cases c50 : N = 50
        · rw [if_pos c50] at rC7
          by_cases c12 : 12 < e - p
          · rw [if_pos c12] at rM7; exact both0 rC7 τ rM7 (fr_refl _ _)
          · rw [if_neg c12, if_pos c50] at rM7; exact both0 rC7 τ rM7 (fr_refl _ _)
        · rw [if_neg c50, eN, eB] at rC7
          obtain ⟨σ1, e1⟩ : ∃ z, z = ga_up (ga_up (ga_up σ fX_wordFrom 0 N p) fX_wordTo 0 N e) fX_wordCount 0 0 (N + 1) := ⟨_, rfl⟩
          have f1 : fr wdC σ σ1 := by rw [e1]; exact fr_trans (fr_u (by decide)) (fr_trans (fr_u (by decide)) (fr_u (by decide)))
          obtain ⟨S1, k1, k2, k3⟩ := CS_more S (by omega) ⟨h0, g.1, by omega⟩ g.2.2 e1
          have eB1 : σ1 fX_tape 0 = B := by rw [f1 _ (by decide)]; exact eB
          have eN1 : σ1 fX_taped 0 0 = n := by rw [f1 _ (by decide)]; exact eN
          have c94 : x_isWords_94 d σ p e = x_isWords_7 d σ1 e := by rw [e_x_isWords_94, S.1, ck_ok _ (by omega), ck_ok _ (by omega), w32_ok (by omega), ← e1]
          by_cases c12 : 12 < e - p
          · -- too long for the model
            rw [if_pos c12] at rM7
            have go94 : x_isWords_7 d σ p = x_isWords_94 d σ p e → ∃ b b' σ' τ', x_isWords_7 d σ p = some (b2i b, σ') ∧ m_isSaid_7 d' τ p = some (b2i b', τ') ∧ fr wdC σ σ' ∧ fr wdM τ τ' ∧ (b' = true → b = true ∧ ∃ N', CS σ' B N' ∧ MS σ' τ' B N') ∧ (b = true → ∃ N', CS σ' B N' ∧ (b' = false → ∃ k, 0 ≤ k ∧ k < N' ∧ 12 < σ' fX_wordTo 0 k - σ' fX_wordFrom 0 k)) := by
              intro r
              obtain ⟨b, σ', c1, c2, c3⟩ := kw_l hn hb hd e (by omega) σ1 (N + 1) eB1 eN1 S1
              refine ⟨b, false, σ', τ, by rw [r, c94]; exact c1, rM7, fr_trans f1 c2, fr_refl _ _, fun z => (by cases z), fun hbt => ?_⟩
              obtain ⟨N', n1, n2, n3⟩ := c3 hbt
              refine ⟨N', n2, fun _ => ⟨N, S2.1, by omega, ?_⟩⟩
              have q := n3 N (by omega)
              rw [q.1, q.2, k2, k3]; exact c12
            by_cases ce : e < n
            · rw [if_pos ce, ck_ok _ (by omega)] at rC7
              by_cases s2 : B e = 32
              · rw [if_pos s2] at rC7; exact go94 rC7
              · rw [if_neg s2] at rC7; exact both0 rC7 τ rM7 (fr_refl _ _)
            · rw [if_neg ce] at rC7; exact go94 rC7
          · obtain ⟨τ1, t1⟩ : ∃ z, z = ga_up (ga_up τ fM_said 0 N (pack (wdB B p (e - p)))) fM_saids 0 0 (N + 1) := ⟨_, rfl⟩
            have g1 : fr wdM τ τ1 := by rw [t1]; exact fr_trans (fr_u (by decide)) (fr_u (by decide))
            have wt := s_m_wordT (τ := τ) (d := d') hd' (p := p) (n := e - p) h0 (by omega) (by omega) (by omega) (fun q q0 q1 => by rw [tB]; exact g.2.2 q q0 (by omega))
            rw [tB] at wt
            rw [if_neg c12, if_neg c50, wt, Option.bind_some] at rM7
            have rM8 : m_isSaid_7 d' τ p = m_isSaid_7 d' τ1 e := by
              rw [rM7]
              show ga_ck N 50 (m_isSaid_7 d' (ga_up (ga_up τ fM_said 0 N (pack (wdB B p (e - p)))) fM_saids 0 0 (w32 (τ fM_saids 0 0 + 1))) e) = _
              rw [ck_ok _ (by omega), M.1, w32_ok (by omega), ← t1]
            have M1 : MS σ1 τ1 B (N + 1) := by
              refine ⟨by rw [t1, up_eq], fun k k0 kN => ?_⟩
              have sd : τ1 fM_said 0 k = if k = N then pack (wdB B p (e - p)) else τ fM_said 0 k := by rw [t1, up_F (by decide), up_at]
              unfold vW
              by_cases c : k = N
              · rw [sd, if_pos c, c, k2, k3]; exact ⟨rfl, by omega⟩
              · rw [sd, if_neg c, (k1 k (by omega)).1, (k1 k (by omega)).2]; exact M.2 k k0 (by omega)
            have tB1 : τ1 fM_tape 0 = B := by rw [g1 _ (by decide)]; exact tB
            have tN1 : τ1 fM_size 0 0 = n := by rw [g1 _ (by decide)]; exact tN
            have go94 : x_isWords_7 d σ p = x_isWords_94 d σ p e → ∃ b b' σ' τ', x_isWords_7 d σ p = some (b2i b, σ') ∧ m_isSaid_7 d' τ p = some (b2i b', τ') ∧ fr wdC σ σ' ∧ fr wdM τ τ' ∧ (b' = true → b = true ∧ ∃ N', CS σ' B N' ∧ MS σ' τ' B N') ∧ (b = true → ∃ N', CS σ' B N' ∧ (b' = false → ∃ k, 0 ≤ k ∧ k < N' ∧ 12 < σ' fX_wordTo 0 k - σ' fX_wordFrom 0 k)) := by
              intro r
              obtain ⟨b, b', σ', τ', c1, c2, c3, c4, c5, c6⟩ := ih e (by omega) y (by omega) σ1 τ1 (N + 1) eB1 eN1 tB1 tN1 S1 M1
              exact ⟨b, b', σ', τ', by rw [r, c94]; exact c1, by rw [rM8]; exact c2, fr_trans f1 c3, fr_trans g1 c4, c5, c6⟩
            by_cases ce : e < n
            · rw [if_pos ce, ck_ok _ (by omega)] at rC7
              by_cases s2 : B e = 32
              · rw [if_pos s2] at rC7; exact go94 rC7
              · rw [if_neg s2] at rC7
                have ne := gs.2.2.1 ce
                refine both0 rC7 τ1 ?_ g1
                rw [rM8, e_m_isSaid_7, tN1, if_pos ce, ck_ok _ (by omega), tB1, if_neg s2, m_w34 hn tB1 tN1 hd' e (by omega), e_m_isSaid_60]
                have e0 : wEnd B n e = e := by unfold wEnd; exact sk_x ce ne
                rw [e0, if_pos rfl]
            · rw [if_neg ce] at rC7; exact go94 rC7
      · have e0 : wEnd B n p = p := by
          unfold wEnd
          exact sk_x y (by cases h : isLt (B p) with | true => exact absurd h l | false => rfl)
        rw [e0, if_pos rfl] at rC7 rM7
        exact both0 rC7 τ rM7 (fr_refl _ _)
  · rw [if_neg y] at rC7 rM7
    exact ⟨true, true, σ, τ, rC7, rM7, fr_refl _ _, fr_refl _ _, fun _ => ⟨rfl, N, S, M⟩, fun _ => ⟨N, S, fun z => by cases z⟩⟩
end

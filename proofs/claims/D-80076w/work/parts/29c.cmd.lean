/-! the text of a command, both sides -/
/-- a word of a command -/
def cmW (B : Int → Int) (p0 e : Int) (ρ τ : ga_S) (i : Int) : Prop := (i = ρ fR_commandSlot 0 0 ∧ τ fM_newWord 0 i = 0) ∨ (i ≠ ρ fR_commandSlot 0 0 ∧ τ fM_newWord 0 i = pack (wdB B (ρ fR_commandFrom 0 i) (ρ fR_commandTo 0 i - ρ fR_commandFrom 0 i)) ∧ (ρ fR_commandFrom 0 i < ρ fR_commandTo 0 i ∧ ρ fR_commandTo 0 i - ρ fR_commandFrom 0 i ≤ 12) ∧ (p0 ≤ ρ fR_commandFrom 0 i ∧ ρ fR_commandTo 0 i ≤ e) ∧ ∀ q, ρ fR_commandFrom 0 i ≤ q → q < ρ fR_commandTo 0 i → isLt (B q) = true)
/-- what stands in brackets -/
def cmS (σ0 : ga_S) (B : Int → Int) (ρ τ : ga_S) (n : Int) : Prop := (ρ fR_commandSlot 0 0 = -1 ∧ τ fM_slotWords 0 0 = 0 ∧ ρ fR_commandKind 0 0 = -1 ∧ ρ fR_isDirection 0 0 = 0) ∨ ((0 ≤ ρ fR_commandSlot 0 0 ∧ ρ fR_commandSlot 0 0 < n) ∧ ∃ c a M, okF B c a M 0 ∧ 0 < M ∧ τ fM_slotWords 0 0 = (M : Int) ∧ (∀ j : Nat, j < M → j < 3 → τ fM_slotWord 0 j = pack (wx B c a j)) ∧ ρ fR_commandKind 0 0 = dN σ0 (nx B c a 0 M) 0 ∧ ρ fR_isDirection 0 0 = b2i (decide (nx B c a 0 M = dirW)))
def CMq (σ0 : ga_S) (B : Int → Int) (p0 e : Int) (ρ τ : ga_S) (n : Int) : Prop := ρ fR_commandCount 0 0 = n ∧ τ fM_newSize 0 0 = n ∧ (0 ≤ n ∧ n ≤ 8) ∧ (∀ i, 0 ≤ i → i < n → cmW B p0 e ρ τ i) ∧ cmS σ0 B ρ τ n
def cmC : List Nat := fR_commandCount :: fR_commandSlot :: fR_commandFrom :: fR_commandTo :: slF
def cmM : List Nat := fM_newSize :: fM_newWord :: slM
section
variable {σ0 τ0 : ga_S} {f : Int} {N : Nat}
theorem k_cm_let {ρ : ga_S} {B : Int → Int} (hB : ρ fT_bytes 0 = B) {e p : Int} (hs : ρ fT_size 0 0 ≤ 5000) (he : e ≤ ρ fT_size 0 0) {d : Nat} (hd : 1 ≤ d) : ∀ q, 0 ≤ q → r_isCommand_71 d ρ e p q 0 = r_isCommand_121 d ρ e p (wEnd B e q) 0 := by
  refine pos_ind e fun q ih h0 => ?_
  rw [e_r_isCommand_71]
  unfold wEnd
  by_cases y : q < e
  · rw [if_pos y, if_pos rfl, s_t_low hd (Int.le_refl _) hs h0, if_pos (by omega), hB]
    simp only [Option.bind_some]
    rw [s_t_isLetter hd]
    simp only [Option.bind_some]
    have el : decide (97 ≤ lowB (B q) ∧ lowB (B q) ≤ 122) = isLt (B q) := rfl
    rw [el]
    cases z : isLt (B q) with
    | false => rw [if_pos b2i_f, sk_x y z]
    | true =>
      rw [if_neg b2i_n, e_r_isCommand_115, w32_ok (by omega), ih (q + 1) (by omega) y (by omega), sk_s (f := fun q => isLt (B q)) y z]; rfl
  · rw [if_neg y, sk_n (by omega)]
theorem k_cm_clo {ρ : ga_S} {B : Int → Int} (hB : ρ fT_bytes 0 = B) {e p : Int} (he : e ≤ 5000) {d : Nat} : ∀ q, 0 ≤ q → r_isCommand_71 d ρ e p q 1 = r_isCommand_121 d ρ e p (clo B e q) 1 := by
  refine pos_ind e fun q ih h0 => ?_
  rw [e_r_isCommand_71, hB]
  unfold clo
  by_cases y : q < e
  · rw [if_pos y, if_neg (by decide), ck_ok _ (by omega)]
    by_cases z : B q = 93
    · rw [if_pos z, sk_x y (decide_eq_false (fun v => v z))]
    · rw [if_neg z, e_r_isCommand_115, w32_ok (by omega), ih (q + 1) (by omega) y (by omega), sk_s (f := fun q => decide (¬ B q = 93)) y (decide_eq_true z)]; rfl
  · rw [if_neg y, sk_n (by omega)]
theorem m_cm_let {τ : ga_S} {B : Int → Int} (hB : τ fM_story 0 = B) {e p : Int} (he : e ≤ 5000) {d : Nat} (hd : 3 ≤ d) : ∀ q, 0 ≤ q → m_isCommand_89 d τ p e q = m_isCommand_115 d τ p e (wEnd B e q) := by
  refine pos_ind e fun q ih h0 => ?_
  rw [e_m_isCommand_89, hB]
  unfold wEnd
  by_cases y : q < e
  · rw [if_pos y, ck_ok _ (by omega), s_m_isLetter hd]
    simp only [Option.bind_some]
    cases z : isLt (B q) with
    | false => rw [if_pos b2i_f, sk_x y z]
    | true =>
      rw [if_neg b2i_n, w32_ok (by omega), ih (q + 1) (by omega) y (by omega), sk_s (f := fun q => isLt (B q)) y z]; rfl
  · rw [if_neg y, sk_n (by omega)]
/-- where the model has found it wrong -/
theorem m_cm_no {τ : ga_S} {d : Nat} (p e x : Int) : m_isCommand_23 d τ p e 0 x = some (0, τ) := by
  rw [e_m_isCommand_23, if_pos rfl, e_m_isCommand_272, if_pos rfl]
theorem m_cm_239 {τ : ga_S} {d : Nat} (hd : 1 ≤ d) {n : Int} (hn : τ fM_newSize 0 0 = n) (h : 0 ≤ n ∧ n < 8) (q e s0 : Int) : m_isCommand_239 d τ q e s0 = m_isCommand_23 d (ga_up (ga_up τ fM_newWord 0 n 0) fM_newSize 0 0 (n + 1)) q e s0 0 := by
  have e1 : (if (7 : Int) < n then (7 : Int) else n) = n := if_neg (by omega)
  rw [e_m_isCommand_239, hn, s_p_min hd, e1]
  simp only [Option.bind_some]
  rw [ck_ok _ h, hn, w32_ok (by omega)]
theorem cm_l (E : E0 σ0 τ0 f N) (I : IN σ0) (hk : rKeys τ0) (eS : τ0 fM_story 0 = σ0 fT_bytes 0) {p0 e : Int} (h00 : 0 ≤ p0) (he : e ≤ σ0 fT_size 0 0) (hl : e - p0 ≤ 120) (hT : txB (σ0 fT_bytes 0) p0 e) {d : Nat} (hd : 6 ≤ d) : ∀ (m : Nat) (p : Int), p0 ≤ p → p ≤ e → e - p ≤ m → ∀ (ρ τ : ga_S) (n : Int), KC σ0 ρ → KM τ0 τ → CMq σ0 (σ0 fT_bytes 0) p0 e ρ τ n → ∃ (g : Bool) (ρ' τ' : ga_S), r_isCommand_22 d ρ e p = some (b2i g, ρ') ∧ m_isCommand_23 d τ p e 1 1 = some (b2i g, τ') ∧ KC σ0 ρ' ∧ KM τ0 τ' ∧ fr cmC ρ ρ' ∧ fr cmM τ τ' ∧ (g = true → ∃ n', 0 < n' ∧ CMq σ0 (σ0 fT_bytes 0) p0 e ρ' τ' n') := by
  have sz := E.2.1.1.1
  obtain ⟨B, eB⟩ : ∃ z, z = σ0 fT_bytes 0 := ⟨_, rfl⟩
  rw [← eB] at hT ⊢
  intro m
  induction m with
  | zero =>
    intro p hp0 hpe hm ρ τ n K M Q
    have ep : p = e := by omega
    obtain ⟨q1, q2, q3, q4, q5⟩ := id Q
    refine ⟨decide (0 < n), ρ, τ, ?_, ?_, K, M, fr_refl _ _, fr_refl _ _, fun z => ⟨n, of_decide_eq_true z, Q⟩⟩
    · rw [e_r_isCommand_22, if_neg (by omega), q1]
      by_cases z : 0 < n
      · rw [if_pos z, decide_eq_true z]; rfl
      · rw [if_neg z, decide_eq_false z]; rfl
    · rw [e_m_isCommand_23, if_neg (by decide), if_neg (by omega), e_m_isCommand_272, if_neg (by decide), q2]
      by_cases z : 0 < n
      · rw [if_pos z, decide_eq_true z]; rfl
      · rw [if_neg z, decide_eq_false z]; rfl
  | succ m ih =>
    intro p hp0 hpe hm ρ τ n K M Q
    obtain ⟨q1, q2, q3, q4, q5⟩ := id Q
    have b1 : ρ fT_bytes 0 = B := by rw [K.1 _ (by decide), eB]
    have b2 : τ fM_story 0 = B := by rw [M _ (by decide), eS, eB]
    have s1 : ρ fT_size 0 0 = σ0 fT_size 0 0 := by rw [K.1 _ (by decide)]
    have hkτ : rKeys τ := fun j x1 x2 => by rw [M _ (by decide)]; exact hk j x1 x2
    by_cases y : p < e
    · by_cases z : B p = 32
      · obtain ⟨g, ρ', τ', a1, a2, a3⟩ := ih (p + 1) (by omega) (by omega) (by push_cast at hm; omega) ρ τ n K M Q
        refine ⟨g, ρ', τ', ?_, ?_, a3⟩
        · rw [e_r_isCommand_22, if_pos y, ck_ok _ (by omega), b1, if_pos z, w32_ok (by omega), a1]
        · rw [e_m_isCommand_23, if_neg (by decide), if_pos y, ck_ok _ (by omega), b2, if_pos z, w32_ok (by omega), a2]
      · -- both wrong
        have no : ∀ ρ1 τ1, r_isCommand_22 d ρ e p = some (0, ρ1) → m_isCommand_23 d τ p e 1 1 = some (0, τ1) → KC σ0 ρ1 → KM τ0 τ1 → fr cmC ρ ρ1 → fr cmM τ τ1 → ∃ (g : Bool) (ρ' τ' : ga_S), r_isCommand_22 d ρ e p = some (b2i g, ρ') ∧ m_isCommand_23 d τ p e 1 1 = some (b2i g, τ') ∧ KC σ0 ρ' ∧ KM τ0 τ' ∧ fr cmC ρ ρ' ∧ fr cmM τ τ' ∧ (g = true → ∃ n', 0 < n' ∧ CMq σ0 B p0 e ρ' τ' n') := fun ρ1 τ1 x1 x2 x3 x4 x5 x6 => ⟨false, ρ1, τ1, x1, x2, x3, x4, x5, x6, fun v => by cases v⟩
        -- behind a word
        have aft : ∀ ρ2 τ2 q, p < q → q ≤ e → KC σ0 ρ2 → KM τ0 τ2 → fr cmC ρ ρ2 → fr cmM τ τ2 → ρ2 fR_commandCount 0 0 = n → n < 8 → (∀ ρ3, ρ3 = ga_up ρ2 fR_commandCount 0 0 (n + 1) → CMq σ0 B p0 e ρ3 τ2 (n + 1)) → r_isCommand_22 d ρ e p = r_isCommand_220 d ρ2 e q → m_isCommand_23 d τ p e 1 1 = m_isCommand_23 d τ2 q e 1 0 → ∃ (g : Bool) (ρ' τ' : ga_S), r_isCommand_22 d ρ e p = some (b2i g, ρ') ∧ m_isCommand_23 d τ p e 1 1 = some (b2i g, τ') ∧ KC σ0 ρ' ∧ KM τ0 τ' ∧ fr cmC ρ ρ' ∧ fr cmM τ τ' ∧ (g = true → ∃ n', 0 < n' ∧ CMq σ0 B p0 e ρ' τ' n') := by
          intro ρ2 τ2 q hq1 hq2 K2 M2 f2 g2 cc n8 QQ rc rm
          obtain ⟨ρ3, e3⟩ : ∃ x, x = ga_up ρ2 fR_commandCount 0 0 (n + 1) := ⟨_, rfl⟩
          have f3 : fr [fR_commandCount] ρ2 ρ3 := by rw [e3]; exact fr_u (by decide)
          have Q3 := QQ ρ3 e3
          have K3 := KC_f K2 f3 (by decide)
          have bb2 : ρ2 fT_bytes 0 = B := by rw [K2.1 _ (by decide), eB]
          have bb3 : ρ3 fT_bytes 0 = B := by rw [K3.1 _ (by decide), eB]
          have tb2 : τ2 fM_story 0 = B := by rw [M2 _ (by decide), eS, eB]
          have s243 : r_isCommand_243 d ρ2 e q = r_isCommand_22 d ρ3 e q := by rw [e_r_isCommand_243, cc, w32_ok (by omega), ← e3]
          rw [e_r_isCommand_220, bb2] at rc
          rw [e_m_isCommand_23 d τ2 q e 1 0, if_neg (by decide), tb2] at rm
          by_cases qe : q < e
          · rw [if_pos qe, ck_ok _ (by omega)] at rc rm
            by_cases q32 : B q = 32
            · rw [if_pos q32, s243, e_r_isCommand_22 d ρ3 e q, if_pos qe, ck_ok _ (by omega), bb3, if_pos q32, w32_ok (by omega)] at rc
              rw [if_pos q32, w32_ok (by omega)] at rm
              obtain ⟨g, ρ', τ', a1, a2, a3, a4, a5, a6, a7⟩ := ih (q + 1) (by omega) (by omega) (by push_cast at hm; omega) ρ3 τ2 (n + 1) K3 M2 Q3
              exact ⟨g, ρ', τ', by rw [rc, a1], by rw [rm, a2], a3, a4, fr_trans f2 (fr_trans (fr_sub f3 (by decide)) a5), fr_trans g2 a6, a7⟩
            · rw [if_neg q32] at rc
              rw [if_neg q32, if_pos rfl, e_m_isCommand_68, m_cm_no] at rm
              exact no ρ2 τ2 rc rm K2 M2 f2 g2
          · rw [if_neg qe, s243, e_r_isCommand_22 d ρ3 e q, if_neg qe, Q3.1, if_pos (by omega)] at rc
            rw [if_neg qe, e_m_isCommand_272, if_neg (by decide), Q3.2.1, if_pos (by omega)] at rm
            exact ⟨true, ρ3, τ2, rc, rm, K3, M2, fr_trans f2 (fr_sub f3 (by decide)), g2, fun _ => ⟨n + 1, by omega, Q3⟩⟩
        have rc0 := e_r_isCommand_22 d ρ e p
        rw [if_pos y, ck_ok _ (by omega), b1, if_neg z, ck_ok _ (by omega)] at rc0
        have rm0 := e_m_isCommand_23 d τ p e 1 1
        rw [if_neg (by decide), if_pos y, ck_ok _ (by omega), b2, if_neg z, if_neg (by decide), q2] at rm0
        by_cases n8 : n = 8
        · -- no room
          rw [if_pos n8, e_m_isCommand_68, m_cm_no] at rm0
          have s121 : ∀ v4 v5, r_isCommand_121 d ρ e p v4 v5 = some (0, ρ) := fun v4 v5 => by rw [e_r_isCommand_121, q1, if_pos n8]
          refine no ρ τ ?_ rm0 K M (fr_refl _ _) (fr_refl _ _)
          by_cases w : B p = 91
          · rw [rc0, if_pos w, e_r_isCommand_69, k_cm_clo b1 (by omega) p (by omega), s121]
          · rw [rc0, if_neg w, e_r_isCommand_69, k_cm_let b1 (by omega) (by omega) (by omega) p (by omega), s121]
        · have hn8 : 0 ≤ n ∧ n < 8 := by omega
          rw [if_neg n8, ck_ok _ (by omega), s_m_isLetter (by omega)] at rm0
          simp only [Option.bind_some] at rm0
          rw [b2] at rm0
          have wrongM : m_isCommand_202 d τ p e = some (0, ga_up (ga_up τ fM_newWord 0 n 0) fM_newSize 0 0 (n + 1)) := by
            rw [e_m_isCommand_202, e_m_isCommand_203, if_pos rfl, e_m_isCommand_223, if_pos rfl, e_m_isCommand_238, m_cm_239 (by omega) q2 hn8, m_cm_no]
          have wf : fr cmM τ (ga_up (ga_up τ fM_newWord 0 n 0) fM_newSize 0 0 (n + 1)) := fr_trans (fr_u (by decide)) (fr_u (by decide))
          by_cases w : B p = 91
          · -- a bracket
            have l91 : isLt (B p) = false := by rw [w]; decide
            have cs := sk_all (f := fun q => decide (¬ B q = 93)) (n := e) p
            obtain ⟨c, ec⟩ : ∃ c, c = clo B e p := ⟨_, rfl⟩
            have ec' : sk (fun q => decide (¬ B q = 93)) e p = c := ec.symm
            rw [ec'] at cs
            have cp : p < c := by
              refine Classical.byContradiction fun v => ?_
              have e1 : c = p := by omega
              have := cs.2.2.1 (by omega)
              rw [e1] at this
              have := of_decide_eq_false this
              omega
            have ce := cs.2.1 hpe
            have n93 : ∀ q, p ≤ q → q < c → B q ≠ 93 := fun q x1 x2 => of_decide_eq_true (cs.2.2.2 q x1 x2)
            rw [if_pos w, e_r_isCommand_69, k_cm_clo b1 (by omega) p (by omega), ← ec, e_r_isCommand_121, q1, if_neg n8, if_neg (by omega), if_neg (by decide)] at rc0
            rw [l91, if_pos b2i_f, ck_ok _ (by omega), if_pos w] at rm0
            rcases q5 with s0 | ⟨s0, c', a', M', _, s1', s2', _⟩
            · rw [if_pos s0.2.1, e_m_isCommand_203, if_neg (by decide), w32_ok (by omega)] at rm0
              obtain ⟨e', rfl⟩ : ∃ e', d = e' + 1 := ⟨d - 1, by omega⟩
              rw [e_m_slot] at rm0
              by_cases c1 : c = e
              · -- it isn't closed
                rw [if_pos c1] at rc0
                obtain ⟨τ1, x1, x2⟩ := m_slot_no (e := e) (B := B) (d := e') (by omega) (by omega) (p + 1) (by omega) (by omega) (fun q u1 u2 => n93 q (by omega) (by omega)) τ b2 hkτ (by rw [s0.2.1]; omega)
                rw [x1] at rm0
                simp only [Option.bind_some] at rm0
                have q2' : τ1 fM_newSize 0 0 = n := by rw [x2 _ (by decide)]; exact q2
                rw [e_m_isCommand_223, if_neg (by decide), if_pos rfl, e_m_isCommand_238, m_cm_239 (by omega) q2' hn8, m_cm_no] at rm0
                have ff : fr cmM τ (ga_up (ga_up τ1 fM_newWord 0 n 0) fM_newSize 0 0 (n + 1)) := fr_trans (fr_sub x2 (by decide)) (fr_trans (fr_u (by decide)) (fr_u (by decide)))
                exact no ρ _ rc0 rm0 K (KM_f M ff (by decide)) (fr_refl _ _) ff
              · have c93 : B c = 93 := by
                  have := of_decide_eq_false (cs.2.2.1 (by omega))
                  exact Classical.byContradiction fun v => this v
                have hM := brM_E E I (c := c) (a := p + 1) (by omega) (by omega) (by omega)
                rw [← eB] at hM
                obtain ⟨Mn, eM⟩ : ∃ z, z = brM B c (p + 1) := ⟨_, rfl⟩
                rw [← eM] at hM
                obtain ⟨ρ1, x1, x2, x3, x4⟩ := k_isSlot E I K (a := p + 1) (c := c) (M := Mn) (by omega) (by omega) (by omega) (by rw [← eB]; exact hM) (d := e' + 1) (by omega)
                rw [← eB] at x3 x4
                obtain ⟨τ1, y1, y2, y3⟩ := m_slot_in (e := e) (c := c) (a := p + 1) (B := B) (M := Mn) (d := e') (by omega) (by omega) (by omega) c93 (by omega) (by omega) (fun q u1 u2 => hT q (by omega) (by omega)) (fun q u1 u2 => n93 q (by omega) u2) hM (p + 1) (Int.le_refl _) (by omega) 0 (Nat.zero_le _) rfl (fun j hj => absurd hj (by omega)) τ b2 hkτ (by rw [s0.2.1]; rfl) (fun j hj => absurd hj (by omega))
                have q2' : τ1 fM_newSize 0 0 = n := by rw [y1 _ (by decide)]; exact q2
                rw [if_neg c1, if_pos s0.1, w32_ok (by omega)] at rc0
                by_cases ok : okF B c (p + 1) Mn 0 ∧ 0 < Mn
                · obtain ⟨u1, u2, u3⟩ := x3 ok
                  obtain ⟨v1, v2, v3⟩ := y2 ok
                  rw [u1] at rc0
                  simp only [Option.bind_some] at rc0
                  have cc1 : ρ1 fR_commandCount 0 0 = n := by rw [x1 _ (by decide)]; exact q1
                  obtain ⟨ρ2, e2⟩ : ∃ x, x = ga_up (ga_up (ga_up ρ1 fR_commandFrom 0 n p) fR_commandTo 0 n c) fR_commandSlot 0 0 n := ⟨_, rfl⟩
                  have f2 : fr [fR_commandFrom, fR_commandTo, fR_commandSlot] ρ1 ρ2 := by rw [e2]; exact fr_trans (fr_trans (fr_u (by decide)) (fr_u (by decide))) (fr_u (by decide))
                  rw [if_neg (by decide), e_r_isCommand_167, if_neg (by decide), e_r_isCommand_183, cc1, ck_ok _ hn8, ck_ok _ hn8, if_neg (by decide), w32_ok (by omega), ← e2] at rc0
                  obtain ⟨τ2, g2⟩ : ∃ x, x = ga_up (ga_up τ1 fM_newWord 0 n 0) fM_newSize 0 0 (n + 1) := ⟨_, rfl⟩
                  have h2 : fr [fM_newWord, fM_newSize] τ1 τ2 := by rw [g2]; exact fr_trans (fr_u (by decide)) (fr_u (by decide))
                  rw [v1] at rm0
                  simp only [Option.bind_some] at rm0
                  rw [e_m_isCommand_223, if_neg (by decide), if_neg (by omega), m_cm_239 (by omega) q2' hn8, ← g2] at rm0
                  refine aft ρ2 τ2 (c + 1) (by omega) (by omega) (KC_f x2 f2 (by decide)) (KM_f (KM_f M y1 (by decide)) h2 (by decide)) (fr_trans (fr_sub x1 (by decide)) (fr_sub f2 (by decide))) (fr_trans (fr_sub y1 (by decide)) (fr_sub h2 (by decide))) (by rw [f2 _ (by decide)]; exact cc1) hn8.2 (fun ρ3 e3 => ?_) rc0 rm0
                  have f3 : fr [fR_commandCount] ρ2 ρ3 := by rw [e3]; exact fr_u (by decide)
                  have sl3 : ρ3 fR_commandSlot 0 0 = n := by rw [f3 _ (by decide), e2, up_eq]
                  refine ⟨by rw [e3, up_eq], by rw [g2, up_eq], by omega, fun i i0 i1 => ?_, Or.inr ⟨by rw [sl3]; omega, c, p + 1, Mn, ok.1, ok.2, ?_, fun j hj h3 => ?_, ?_, ?_⟩⟩
                  · by_cases iz : i = n
                    · refine Or.inl ⟨by rw [sl3]; exact iz, ?_⟩
                      rw [iz, g2, up_F (by decide), up_eq]
                    · have old := q4 i i0 (by omega)
                      rcases old with old | old
                      · exfalso
                        have := old.1
                        rw [s0.1] at this
                        omega
                      · have eF : ρ3 fR_commandFrom 0 i = ρ fR_commandFrom 0 i := by rw [f3 _ (by decide), e2, up_F (by decide), up_F (by decide), up_i iz, x1 _ (by decide)]
                        have eT : ρ3 fR_commandTo 0 i = ρ fR_commandTo 0 i := by rw [f3 _ (by decide), e2, up_F (by decide), up_i iz, up_F (by decide), x1 _ (by decide)]
                        have eW : τ2 fM_newWord 0 i = τ fM_newWord 0 i := by rw [g2, up_F (by decide), up_i iz, y1 _ (by decide)]
                        refine Or.inr ⟨by rw [sl3]; exact iz, ?_⟩
                        rw [eF, eT, eW]
                        exact old.2
                  · rw [h2 _ (by decide)]; exact v2
                  · rw [h2 _ (by decide)]; exact v3 j hj h3
                  · rw [f3 _ (by decide), f2 _ (by decide)]; exact u2
                  · rw [f3 _ (by decide), f2 _ (by decide)]; exact u3
                · rw [x4 ok] at rc0
                  simp only [Option.bind_some] at rc0
                  rw [if_pos (by trivial)] at rc0
                  rw [y3 ok] at rm0
                  simp only [Option.bind_some] at rm0
                  rw [e_m_isCommand_223, if_neg (by decide), if_pos rfl, e_m_isCommand_238, m_cm_239 (by omega) q2' hn8, m_cm_no] at rm0
                  have ff : fr cmM τ (ga_up (ga_up τ1 fM_newWord 0 n 0) fM_newSize 0 0 (n + 1)) := fr_trans (fr_sub y1 (by decide)) (fr_trans (fr_u (by decide)) (fr_u (by decide)))
                  exact no ρ1 _ rc0 rm0 x2 (KM_f M ff (by decide)) (fr_sub x1 (by decide)) ff
            · -- a second one
              rw [if_neg (by omega), wrongM] at rm0
              refine no ρ _ ?_ rm0 K (KM_f M wf (by decide)) (fr_refl _ _) wf
              rw [rc0]
              by_cases c1 : c = e
              · rw [if_pos c1]
              · rw [if_neg c1, if_neg (by omega)]
          · cases lt : isLt (B p) with
            | false =>
              have we : wEnd B e p = p := by unfold wEnd; exact sk_x y lt
              rw [if_neg w, e_r_isCommand_69, k_cm_let b1 (by omega) (by omega) (by omega) p (by omega), we, e_r_isCommand_121, q1, if_neg n8, if_pos rfl] at rc0
              rw [lt, if_pos b2i_f, ck_ok _ (by omega), if_neg w, wrongM] at rm0
              exact no ρ _ rc0 rm0 K (KM_f M wf (by decide)) (fr_refl _ _) wf
            | true =>
              have g := wEnd_g y lt
              obtain ⟨q, eq⟩ : ∃ q, q = wEnd B e p := ⟨_, rfl⟩
              rw [← eq] at g
              rw [if_neg w, e_r_isCommand_69, k_cm_let b1 (by omega) (by omega) (by omega) p (by omega), ← eq, e_r_isCommand_121, q1, if_neg n8, if_neg (by omega), if_pos rfl, e_r_isCommand_167, if_pos rfl, w32_ok (by omega)] at rc0
              rw [lt, if_neg b2i_n, m_cm_let b2 (by omega) (by omega) p (by omega), ← eq, e_m_isCommand_115, w32_ok (by omega)] at rm0
              by_cases c12 : 12 < q - p
              · rw [if_pos c12] at rc0
                rw [if_pos c12, e_m_isCommand_129, if_pos rfl, q2, e_m_isCommand_160, ck_ok _ hn8, q2, w32_ok (by omega), m_cm_no] at rm0
                exact no ρ _ rc0 rm0 K (KM_f M wf (by decide)) (fr_refl _ _) wf
              · rw [if_neg c12, e_r_isCommand_183, q1, ck_ok _ hn8, ck_ok _ hn8, if_pos rfl] at rc0
                have wo := s_m_wordOf (τ := τ) (d := d) (by omega) (show 0 ≤ p by omega) (show 0 ≤ q - p by omega) (by omega) (by omega) (fun x u1 u2 => by rw [b2]; exact g.2.2 x u1 (by omega))
                rw [b2] at wo
                rw [if_neg c12, e_m_isCommand_129, if_neg (by decide), w32_ok (by omega), wo] at rm0
                simp only [Option.bind_some] at rm0
                rw [q2, e_m_isCommand_160, ck_ok _ hn8, q2, w32_ok (by omega)] at rm0
                obtain ⟨ρ2, e2⟩ : ∃ x, x = ga_up (ga_up ρ fR_commandFrom 0 n p) fR_commandTo 0 n q := ⟨_, rfl⟩
                have f2 : fr [fR_commandFrom, fR_commandTo] ρ ρ2 := by rw [e2]; exact fr_trans (fr_u (by decide)) (fr_u (by decide))
                obtain ⟨τ2, g2⟩ : ∃ x, x = ga_up (ga_up τ fM_newWord 0 n (pack (wdB B p (q - p)))) fM_newSize 0 0 (n + 1) := ⟨_, rfl⟩
                have h2 : fr [fM_newWord, fM_newSize] τ τ2 := by rw [g2]; exact fr_trans (fr_u (by decide)) (fr_u (by decide))
                rw [← e2] at rc0
                rw [← g2] at rm0
                refine aft ρ2 τ2 q g.1 g.2.1 (KC_f K f2 (by decide)) (KM_f M h2 (by decide)) (fr_sub f2 (by decide)) (fr_sub h2 (by decide)) (by rw [f2 _ (by decide)]; exact q1) hn8.2 (fun ρ3 e3 => ?_) rc0 rm0
                have f3 : fr [fR_commandCount] ρ2 ρ3 := by rw [e3]; exact fr_u (by decide)
                have f03 : fr [fR_commandFrom, fR_commandTo, fR_commandCount] ρ ρ3 := fr_trans (fr_sub f2 (by decide)) (fr_sub f3 (by decide))
                refine ⟨by rw [e3, up_eq], by rw [g2, up_eq], by omega, fun i i0 i1 => ?_, ?_⟩
                · by_cases iz : i = n
                  · have eF : ρ3 fR_commandFrom 0 i = p := by rw [iz, f3 _ (by decide), e2, up_F (by decide), up_eq]
                    have eT : ρ3 fR_commandTo 0 i = q := by rw [iz, f3 _ (by decide), e2, up_eq]
                    have eW : τ2 fM_newWord 0 i = pack (wdB B p (q - p)) := by rw [iz, g2, up_F (by decide), up_eq]
                    refine Or.inr ⟨?_, ?_⟩
                    · rw [f03 _ (by decide)]
                      rcases q5 with s0 | ⟨s0, _⟩ <;> omega
                    · rw [eF, eT, eW]
                      exact ⟨rfl, by omega, by omega, g.2.2⟩
                  · have old := q4 i i0 (by omega)
                    have eF : ρ3 fR_commandFrom 0 i = ρ fR_commandFrom 0 i := by rw [f3 _ (by decide), e2, up_F (by decide), up_i iz]
                    have eT : ρ3 fR_commandTo 0 i = ρ fR_commandTo 0 i := by rw [f3 _ (by decide), e2, up_i iz, up_F (by decide)]
                    have eW : τ2 fM_newWord 0 i = τ fM_newWord 0 i := by rw [g2, up_F (by decide), up_i iz]
                    unfold cmW at old ⊢
                    rw [eF, eT, eW, f03 fR_commandSlot (by decide)]
                    exact old
                · unfold cmS at q5 ⊢
                  rw [f03 fR_commandSlot (by decide), f03 fR_commandKind (by decide), f03 fR_isDirection (by decide), h2 fM_slotWords (by decide), h2 fM_slotWord (by decide)]
                  rcases q5 with s0 | ⟨s0, s9⟩
                  · exact Or.inl s0
                  · exact Or.inr ⟨by omega, s9⟩
    · -- at the end
      have ep : p = e := by omega
      refine ⟨decide (0 < n), ρ, τ, ?_, ?_, K, M, fr_refl _ _, fr_refl _ _, fun z => ⟨n, of_decide_eq_true z, Q⟩⟩
      · rw [e_r_isCommand_22, if_neg (by omega), q1]
        by_cases z : 0 < n
        · rw [if_pos z, decide_eq_true z]; rfl
        · rw [if_neg z, decide_eq_false z]; rfl
      · rw [e_m_isCommand_23, if_neg (by decide), if_neg (by omega), e_m_isCommand_272, if_neg (by decide), q2]
        by_cases z : 0 < n
        · rw [if_pos z, decide_eq_true z]; rfl
        · rw [if_neg z, decide_eq_false z]; rfl
end

/-! commands that are told, on both sides; the act of a command -/
def cwR (σ τ : ga_S) (c k : Int) : Prop := (k = σ fW_commandSlots 0 c ∧ τ fM_commandWord 0 (8 * c + k) = 0) ∨ (k ≠ σ fW_commandSlots 0 c ∧ ∃ w : List Int, isW w ∧ w ≠ [] ∧ w.length ≤ 12 ∧ τ fM_commandWord 0 (8 * c + k) = pack w ∧ σ fW_commandSize c k = w.length ∧ 0 ≤ σ fW_commandFrom c k ∧ σ fW_commandFrom c k + w.length ≤ σ fW_commandUsed 0 0 ∧ ∀ i : Int, 0 ≤ i → i < (w.length : Int) → σ fW_commandLetters 0 (σ fW_commandFrom c k + i) = w.getD i.toNat 0)
def cwC (σ τ : ga_S) (c : Int) : Prop := (τ fM_commandAction 0 c = σ fW_commandActions 0 c ∧ 0 ≤ σ fW_commandActions 0 c ∧ σ fW_commandActions 0 c < σ fW_actions 0 0) ∧ (τ fM_commandSize 0 c = σ fW_commandWords 0 c ∧ 1 ≤ σ fW_commandWords 0 c ∧ σ fW_commandWords 0 c ≤ 8) ∧ τ fM_commandKind 0 c = σ fW_commandKinds 0 c ∧ ((σ fW_actionKinds 0 (σ fW_commandActions 0 c) = -1 ∧ σ fW_commandSlots 0 c = -1 ∧ σ fW_commandKinds 0 c = -1) ∨ (σ fW_actionKinds 0 (σ fW_commandActions 0 c) = -2 ∧ (0 ≤ σ fW_commandSlots 0 c ∧ σ fW_commandSlots 0 c < σ fW_commandWords 0 c) ∧ σ fW_commandKinds 0 c = -2) ∨ (0 ≤ σ fW_actionKinds 0 (σ fW_commandActions 0 c) ∧ (0 ≤ σ fW_commandSlots 0 c ∧ σ fW_commandSlots 0 c < σ fW_commandWords 0 c) ∧ (0 ≤ σ fW_commandKinds 0 c ∧ σ fW_commandKinds 0 c < σ fW_kinds 0 0) ∧ isB (σ fW_parents 0) (σ fW_commandKinds 0 c) (σ fW_actionKinds 0 (σ fW_commandActions 0 c)) = true)) ∧ ∀ k, 0 ≤ k → k < σ fW_commandWords 0 c → cwR σ τ c k
def CW (σ τ : ga_S) : Prop := (τ fM_commands 0 0 = σ fW_commands 0 0 ∧ 0 ≤ σ fW_commands 0 0 ∧ σ fW_commands 0 0 ≤ 20) ∧ (0 ≤ σ fW_commandUsed 0 0 ∧ σ fW_commandUsed 0 0 ≤ 96 * σ fW_commands 0 0) ∧ ∀ c, 0 ≤ c → c < σ fW_commands 0 0 → cwC σ τ c
def cwL : List Nat := [fW_commands, fW_commandActions, fW_commandWords, fW_commandSlots, fW_commandKinds, fW_commandFrom, fW_commandSize, fW_commandLetters, fW_commandUsed]
def cwM : List Nat := [fM_commands, fM_commandAction, fM_commandSize, fM_commandKind, fM_commandWord]
theorem CW_grow {σ τ σ' τ' : ga_S} (h : CW σ τ) (Z : GZ σ σ') {L M : List Nat} (f1 : fr L σ σ') (hL : cwL.all (fun F => !(L.contains F)) = true) (f2 : fr M τ τ') (hM : cwM.all (fun F => !(M.contains F)) = true) : CW σ' τ' := by
  have c : ∀ F, F ∈ cwL → σ' F = σ F := fun F hF => fr_no f1 hL hF
  have m : ∀ F, F ∈ cwM → τ' F = τ F := fun F hF => fr_no f2 hM hF
  unfold CW cwC cwR at h ⊢
  rw [c fW_commands (by decide), c fW_commandActions (by decide), c fW_commandWords (by decide), c fW_commandSlots (by decide), c fW_commandKinds (by decide), c fW_commandFrom (by decide), c fW_commandSize (by decide), c fW_commandLetters (by decide), c fW_commandUsed (by decide), m fM_commands (by decide), m fM_commandAction (by decide), m fM_commandSize (by decide), m fM_commandKind (by decide), m fM_commandWord (by decide)]
  refine ⟨h.1, h.2.1, fun k k0 k1 => ?_⟩
  obtain ⟨a1, a2, a3, a4, a5⟩ := h.2.2 k k0 k1
  have ca := Z.1.1 fW_actions (by decide)
  have ck := Z.1.1 fW_kinds (by decide)
  refine ⟨⟨a1.1, a1.2.1, by omega⟩, a2, a3, ?_, a5⟩
  rw [Z.1.2.2.2.2.2.2.1 _ a1.2.1 a1.2.2]
  rcases a4 with b | b | b
  · exact Or.inl b
  · exact Or.inr (Or.inl b)
  · exact Or.inr (Or.inr ⟨b.1, b.2.1, ⟨b.2.2.1.1, by omega⟩, isB_g Z b.2.2.1 ⟨b.2.2.1.1, by omega⟩ (Or.inl rfl) b.2.2.2⟩)
theorem isLt_r {b : Int} (h : isLt b = true) : 97 ≤ lowB b ∧ lowB b ≤ 122 := of_decide_eq_true h
/-- the letters of one word -/
theorem kc_in {c k b : Int} {B : Int → Int} (hk : 0 ≤ k ∧ k < 8) {d : Nat} (hd : 1 ≤ d) : ∀ v, ∀ ρ : ga_S, ρ fT_bytes 0 = B → ρ fR_commandTo 0 k = b → k ≠ ρ fR_commandSlot 0 0 → ρ fT_size 0 0 ≤ 5000 → b ≤ ρ fT_size 0 0 → 0 ≤ v → v ≤ b → (∀ q, v ≤ q → q < b → isLt (B q) = true) → 0 ≤ ρ fW_commandUsed 0 0 → ρ fW_commandUsed 0 0 + (b - v) ≤ 3000 → ∃ ρ', r_keepCommand_126 d ρ c k v = r_keepCommand_181 d ρ' c k ∧ fr [fW_commandUsed, fW_commandLetters] ρ ρ' ∧ ρ' fW_commandUsed 0 0 = ρ fW_commandUsed 0 0 + (b - v) ∧ ∀ i, ρ' fW_commandLetters 0 i = if ρ fW_commandUsed 0 0 ≤ i ∧ i < ρ fW_commandUsed 0 0 + (b - v) then lowB (B (v + (i - ρ fW_commandUsed 0 0))) else ρ fW_commandLetters 0 i := by
  refine rg_ind (n := b) ?_ ?_
  · intro v h ρ h1 h2 h3 h4 h5 h6 h7 h8 h9 h10
    refine ⟨ρ, ?_, fr_refl _ _, by omega, fun i => by rw [if_neg (by omega)]⟩
    rw [e_r_keepCommand_126, ck_ok _ hk, h2, if_neg (by omega)]
  · intro v h ih ρ h1 h2 h3 h4 h5 h6 h7 h8 h9 h10
    obtain ⟨u, eu⟩ : ∃ x, x = ρ fW_commandUsed 0 0 := ⟨_, rfl⟩
    rw [← eu] at h9 h10 ⊢
    obtain ⟨ρ1, e1⟩ : ∃ x, x = ga_up ρ fW_commandUsed 0 0 (u + 1) := ⟨_, rfl⟩
    have f1 : fr [fW_commandUsed] ρ ρ1 := by rw [e1]; exact fr_u (by decide)
    obtain ⟨x, ex⟩ : ∃ x, x = lowB (B v) := ⟨_, rfl⟩
    have bx : 97 ≤ x ∧ x ≤ 122 := by rw [ex]; exact isLt_r (h8 v (Int.le_refl _) h)
    have lo := s_t_low (σ := ρ1) hd (v := 0) (i := v) (Int.le_refl 0) (by rw [f1 _ (by decide)]; exact h4) h6
    rw [f1 fT_size (by decide), f1 fT_bytes (by decide), h1, if_pos (by omega), ← ex] at lo
    obtain ⟨ρ2, e2⟩ : ∃ x', x' = ga_up ρ1 fW_commandLetters 0 u x := ⟨_, rfl⟩
    have f2 : fr [fW_commandLetters] ρ1 ρ2 := by rw [e2]; exact fr_u (by decide)
    have f12 : fr [fW_commandUsed, fW_commandLetters] ρ ρ2 := fr_trans (fr_sub f1 (by decide)) (fr_sub f2 (by decide))
    have u2 : ρ2 fW_commandUsed 0 0 = u + 1 := by rw [f2 _ (by decide), e1, up_eq]
    obtain ⟨ρ', g1, g2, g3, g4⟩ := ih ρ2 (by rw [f12 _ (by decide)]; exact h1) (by rw [f12 _ (by decide)]; exact h2) (by rw [f12 _ (by decide)]; exact h3) (by rw [f12 _ (by decide)]; exact h4) (by rw [f12 _ (by decide)]; exact h5) (by omega) (by omega) (fun q q0 q1 => h8 q (by omega) q1) (by omega) (by omega)
    rw [u2] at g3 g4
    refine ⟨ρ', ?_, fr_trans f12 g2, by omega, fun i => ?_⟩
    · rw [e_r_keepCommand_126, ck_ok _ hk, h2, if_pos h, if_neg h3, ← eu, w32_ok (x := u + 1) (by omega), ← e1, lo]
      simp only [Option.bind_some]
      rw [ck_ok _ (by omega), w8_ok (x := x) (by omega), w8_ok (x := x) (by omega), ← e2, w32_ok (x := v + 1) (by omega)]
      exact g1
    · rw [g4]
      by_cases c1 : u + 1 ≤ i ∧ i < u + 1 + (b - (v + 1))
      · rw [if_pos c1, if_pos (by omega), show v + 1 + (i - (u + 1)) = v + (i - u) by omega]
      · rw [if_neg c1]
        by_cases c2 : i = u
        · rw [if_pos (by omega), c2, e2, up_eq, ex, show v + (u - u) = v by omega]
        · rw [if_neg (by omega), e2, up_i c2, f1 _ (by decide)]
def kcF : List Nat := [fW_commandFrom, fW_commandSize, fW_commandUsed, fW_commandLetters]
/-- ahead of word k of command c -/
def KQ (σ : ga_S) (B : Int → Int) (c : Int) (ρ : ga_S) (k : Int) : Prop := fr kcF σ ρ ∧ (σ fW_commandUsed 0 0 ≤ ρ fW_commandUsed 0 0 ∧ ρ fW_commandUsed 0 0 ≤ σ fW_commandUsed 0 0 + 12 * k) ∧ (∀ i, i < σ fW_commandUsed 0 0 → ρ fW_commandLetters 0 i = σ fW_commandLetters 0 i) ∧ (∀ n, n ≠ c → ρ fW_commandFrom n = σ fW_commandFrom n ∧ ρ fW_commandSize n = σ fW_commandSize n) ∧ ∀ j, 0 ≤ j → j < k → j ≠ σ fR_commandSlot 0 0 → ρ fW_commandSize c j = σ fR_commandTo 0 j - σ fR_commandFrom 0 j ∧ 0 ≤ ρ fW_commandFrom c j ∧ ρ fW_commandFrom c j + ρ fW_commandSize c j ≤ ρ fW_commandUsed 0 0 ∧ ∀ i, 0 ≤ i → i < ρ fW_commandSize c j → ρ fW_commandLetters 0 (ρ fW_commandFrom c j + i) = lowB (B (σ fR_commandFrom 0 j + i))
theorem kc_out {σ : ga_S} {B : Int → Int} {c n : Int} (hB : σ fT_bytes 0 = B) (hc : 0 ≤ c ∧ c < 20) (hn : σ fR_commandCount 0 0 = n) (hn8 : 0 ≤ n ∧ n ≤ 8) (sz : σ fT_size 0 0 ≤ 5000) (hu : 0 ≤ σ fW_commandUsed 0 0 ∧ σ fW_commandUsed 0 0 ≤ 2400) (hw : ∀ j, 0 ≤ j → j < n → j ≠ σ fR_commandSlot 0 0 → (0 ≤ σ fR_commandFrom 0 j ∧ σ fR_commandFrom 0 j ≤ σ fR_commandTo 0 j) ∧ σ fR_commandTo 0 j - σ fR_commandFrom 0 j ≤ 12 ∧ σ fR_commandTo 0 j ≤ σ fT_size 0 0 ∧ ∀ q, σ fR_commandFrom 0 j ≤ q → q < σ fR_commandTo 0 j → isLt (B q) = true) {d : Nat} (hd : 1 ≤ d) : ∀ k, 0 ≤ k → k ≤ n → ∀ ρ, KQ σ B c ρ k → ∃ ρ', r_keepCommand_69 d ρ c k = some (0, ρ') ∧ KQ σ B c ρ' n := by
  refine rg_ind (n := n) ?_ ?_
  · intro k h h0 h1 ρ H
    have e : k = n := by omega
    subst e
    refine ⟨ρ, ?_, H⟩
    rw [e_r_keepCommand_69, H.1 fR_commandCount (by decide), hn, if_neg (by omega)]
  · intro k h ih h0 h1 ρ H
    obtain ⟨H1, H2, H3, H4, H5⟩ := H
    obtain ⟨u, eu⟩ : ∃ x, x = ρ fW_commandUsed 0 0 := ⟨_, rfl⟩
    rw [← eu] at H2 H5
    obtain ⟨z, ez⟩ : ∃ x, x = w32 (σ fR_commandTo 0 k - σ fR_commandFrom 0 k) := ⟨_, rfl⟩
    obtain ⟨ρ1, e1⟩ : ∃ x, x = ga_up (ga_up ρ fW_commandFrom c k u) fW_commandSize c k z := ⟨_, rfl⟩
    have f1 : fr [fW_commandFrom, fW_commandSize] ρ ρ1 := by rw [e1]; exact fr_trans (fr_u (by decide)) (fr_u (by decide))
    have fσ : fr kcF σ ρ1 := fr_trans H1 (fr_sub f1 (by decide))
    have u1 : ρ1 fW_commandUsed 0 0 = u := by rw [f1 _ (by decide)]; exact eu.symm
    have r4 : ∀ m, m ≠ c → ρ1 fW_commandFrom m = σ fW_commandFrom m ∧ ρ1 fW_commandSize m = σ fW_commandSize m := by
      intro m hm
      rw [e1, up_F (by decide), up_n hm, up_n hm, up_F (by decide)]
      exact H4 m hm
    have rc : ∀ j, j ≠ k → ρ1 fW_commandFrom c j = ρ fW_commandFrom c j ∧ ρ1 fW_commandSize c j = ρ fW_commandSize c j := by
      intro j hj
      rw [e1, up_F (by decide), up_i hj, up_i hj, up_F (by decide)]
      exact ⟨rfl, rfl⟩
    have run0 := e_r_keepCommand_69 d ρ c k
    rw [H1 fR_commandCount (by decide), hn, if_pos h, H1 fR_commandTo (by decide), H1 fR_commandFrom (by decide), ← eu, ← ez, ← e1] at run0
    rw [ck_ok _ hc, nn_ok _ hc.1, ck_ok _ (by omega), ck_ok _ hc, ck_ok _ (by omega), ck_ok _ (by omega), nn_ok _ hc.1, ck_ok _ (by omega), ck_ok _ (by omega)] at run0
    -- the letters
    have letters : ∃ ρ2, r_keepCommand_126 d ρ1 c k (σ fR_commandFrom 0 k) = r_keepCommand_181 d ρ2 c k ∧ KQ σ B c ρ2 (k + 1) := by
      by_cases cs : k = σ fR_commandSlot 0 0
      · refine ⟨ρ1, ?_, fσ, by rw [u1]; omega, fun i hi => by rw [f1 _ (by decide)]; exact H3 i hi, r4, fun j j0 j1 j2 => ?_⟩
        · rw [e_r_keepCommand_126, ck_ok _ (by omega), fσ fR_commandSlot (by decide), if_pos cs]
          by_cases q : σ fR_commandFrom 0 k < ρ1 fR_commandTo 0 k
          · rw [if_pos q]
          · rw [if_neg q]
        · have o := H5 j j0 (by omega) j2
          rw [(rc j (by omega)).1, (rc j (by omega)).2, u1, f1 _ (by decide)]
          exact o
      · have w := hw k h0 h cs
        have zz : z = σ fR_commandTo 0 k - σ fR_commandFrom 0 k := by rw [ez, w32_ok (by omega)]
        obtain ⟨ρ2, g1, g2, g3, g4⟩ := kc_in (c := c) (k := k) (b := σ fR_commandTo 0 k) (B := B) (by omega) hd (σ fR_commandFrom 0 k) ρ1 (by rw [fσ _ (by decide)]; exact hB) (by rw [fσ _ (by decide)]) (by rw [fσ _ (by decide)]; exact cs) (by rw [fσ _ (by decide)]; exact sz) (by rw [fσ _ (by decide)]; exact w.2.2.1) w.1.1 w.1.2 w.2.2.2 (by omega) (by omega)
        rw [u1] at g3 g4
        have rc2 : ∀ j, ρ2 fW_commandFrom c j = ρ1 fW_commandFrom c j ∧ ρ2 fW_commandSize c j = ρ1 fW_commandSize c j := by
          intro j; rw [g2 _ (by decide), g2 _ (by decide)]; exact ⟨rfl, rfl⟩
        refine ⟨ρ2, g1, fr_trans fσ (fr_sub g2 (by decide)), by omega, fun i hi => ?_, fun m hm => by rw [g2 _ (by decide), g2 _ (by decide)]; exact r4 m hm, fun j j0 j1 j2 => ?_⟩
        · rw [g4, if_neg (by omega), f1 _ (by decide)]; exact H3 i hi
        · by_cases cj : j = k
          · have fk : ρ1 fW_commandFrom c k = u := by rw [e1, up_F (by decide), up_eq]
            have sk : ρ1 fW_commandSize c k = z := by rw [e1, up_eq]
            rw [(rc2 j).1, (rc2 j).2, cj, fk, sk, g3]
            refine ⟨zz, by omega, by omega, fun i i0 i1 => ?_⟩
            rw [g4, if_pos (by omega), show u + i - u = i by omega]
          · have o := H5 j j0 (by omega) j2
            rw [(rc2 j).1, (rc2 j).2, (rc j cj).1, (rc j cj).2, g3]
            refine ⟨o.1, o.2.1, by omega, fun i i0 i1 => ?_⟩
            rw [g4, if_neg (by omega), f1 _ (by decide)]
            exact o.2.2.2 i i0 i1
    obtain ⟨ρ2, l1, l2⟩ := letters
    obtain ⟨ρ', t1, t2⟩ := ih (by omega) (by omega) ρ2 l2
    refine ⟨ρ', ?_, t2⟩
    rw [run0, l1, e_r_keepCommand_181, w32_ok (x := k + 1) (by omega)]
    exact t1
theorem s_cpy_cm {d : Nat} (hd : 1 ≤ d) (σ : ga_S) {p : Int} (hp : 0 ≤ p ∧ p + 8 ≤ 160) : p_cpy_175_131 d σ 0 p 8 = some (0, am_copy σ fM_newWord 0 0 fM_commandWord 0 p 8) := by
  obtain ⟨d, rfl⟩ : ∃ e, d = e + 1 := ⟨d - 1, by omega⟩
  show (if (0 : Int) ≤ 0 ∧ 0 ≤ p ∧ (0 : Int) ≤ 8 ∧ (0 : Int) + 8 ≤ 8 ∧ p + 8 ≤ 160 then some ((0 : Int), am_copy σ fM_newWord 0 0 fM_commandWord 0 p 8) else none) = _
  rw [if_pos (by omega)]
section
variable {σ τ : ga_S} {f : Int} {N : Nat}
def a1C : List Nat := cwL
def a1M : List Nat := cwM
theorem act_1 (E : E0 σ τ f N) (C : CW σ τ) (hs : σ fR_sort 0 0 = 1) (ht : τ fM_sort 0 0 = 1) (R0 : RU σ τ f N 0 (σ fR_runFrom 0 0) (σ fR_runTo 0 0)) {X n p0 e : Int} (hX : dN σ (nR σ 0) 8 = X) (hX1 : X ≠ -1) (hcm : σ fW_commands 0 0 < 20) (hk : σ fR_kind0 0 0 = X) (Q : CMr σ (σ fT_bytes 0) p0 e σ τ X n) (hp : 0 ≤ p0 ∧ e ≤ σ fT_size 0 0) {d : Nat} (hd : 5 ≤ d) (first : Int) : ∃ σ' τ', c_r_act (d + 2) σ = some (1, σ') ∧ c_m_does1 (d + 2) τ first = some (0, τ') ∧ fr a1C σ σ' ∧ fr a1M τ τ' ∧ CW σ' τ' := by
  obtain ⟨E1, E2, E3, E4⟩ := E
  have ET : ENV σ τ f N ∧ TOK σ τ f N := ⟨E1, E2⟩
  obtain ⟨C1, C2, C3⟩ := C
  obtain ⟨Q1, Q2, Q3, Q4, Q5, Q6⟩ := Q
  obtain ⟨c, ec⟩ : ∃ x, x = σ fW_commands 0 0 := ⟨_, rfl⟩
  have ec' : τ fM_commands 0 0 = c := by rw [C1.1, ec]
  rw [← ec] at hcm C1 C2 C3
  have rX := dN_rg E3 E4.2.2.2.2.2.2.2.2.2.1 (nR σ 0) 8
  have m8 : mxN σ 8 = σ fW_actions 0 0 := rfl
  rw [hX] at rX
  have sz := E2.1.1
  -- the component
  obtain ⟨ρ, eρ⟩ : ∃ x, x = ga_up (ga_up (ga_up (ga_up (ga_up σ fW_commands 0 0 (c + 1)) fW_commandActions 0 c X) fW_commandWords 0 c n) fW_commandSlots 0 c (σ fR_commandSlot 0 0)) fW_commandKinds 0 c (σ fR_commandKind 0 0) := ⟨_, rfl⟩
  have f1 : fr [fW_commands, fW_commandActions, fW_commandWords, fW_commandSlots, fW_commandKinds] σ ρ := by rw [eρ]; exact fr_trans (fr_u (by decide)) (fr_trans (fr_u (by decide)) (fr_trans (fr_u (by decide)) (fr_trans (fr_u (by decide)) (fr_u (by decide)))))
  have x1 : ρ fW_commands 0 0 = c + 1 := by rw [eρ, up_F (by decide), up_F (by decide), up_F (by decide), up_F (by decide), up_eq]
  have x2 : ∀ i, ρ fW_commandActions 0 i = if i = c then X else σ fW_commandActions 0 i := by
    intro i; rw [eρ, up_F (by decide), up_F (by decide), up_F (by decide), up_at, up_F (by decide)]
  have x3 : ∀ i, ρ fW_commandWords 0 i = if i = c then n else σ fW_commandWords 0 i := by
    intro i; rw [eρ, up_F (by decide), up_F (by decide), up_at, up_F (by decide), up_F (by decide)]
  have x4 : ∀ i, ρ fW_commandSlots 0 i = if i = c then σ fR_commandSlot 0 0 else σ fW_commandSlots 0 i := by
    intro i; rw [eρ, up_F (by decide), up_at, up_F (by decide), up_F (by decide), up_F (by decide)]
  have x5 : ∀ i, ρ fW_commandKinds 0 i = if i = c then σ fR_commandKind 0 0 else σ fW_commandKinds 0 i := by
    intro i; rw [eρ, up_at, up_F (by decide), up_F (by decide), up_F (by decide), up_F (by decide)]
  have u0 : ρ fW_commandUsed 0 0 = σ fW_commandUsed 0 0 := by rw [f1 _ (by decide)]
  have hw : ∀ j, 0 ≤ j → j < n → j ≠ ρ fR_commandSlot 0 0 → (0 ≤ ρ fR_commandFrom 0 j ∧ ρ fR_commandFrom 0 j ≤ ρ fR_commandTo 0 j) ∧ ρ fR_commandTo 0 j - ρ fR_commandFrom 0 j ≤ 12 ∧ ρ fR_commandTo 0 j ≤ ρ fT_size 0 0 ∧ ∀ q, ρ fR_commandFrom 0 j ≤ q → q < ρ fR_commandTo 0 j → isLt (σ fT_bytes 0 q) = true := by
    intro j j0 j1 j2
    rw [f1 _ (by decide)] at j2
    rw [f1 fR_commandFrom (by decide), f1 fR_commandTo (by decide), f1 fT_size (by decide)]
    rcases Q4 j j0 j1 with z | z
    · exact absurd z.1 j2
    · obtain ⟨_, z2, z3, z4, z5⟩ := z
      exact ⟨by omega, by omega, by omega, z5⟩
  obtain ⟨σ', g1, g2⟩ := kc_out (σ := ρ) (B := σ fT_bytes 0) (c := c) (n := n) (by rw [f1 _ (by decide)]) (by omega) (by rw [f1 _ (by decide)]; exact Q1) (by omega) (by rw [f1 _ (by decide)]; exact sz) (by omega) hw (d := d) (by omega) 0 (Int.le_refl _) (by omega) ρ ⟨fr_refl _ _, by omega, fun _ _ => rfl, fun _ _ => ⟨rfl, rfl⟩, fun j j0 j1 => by omega⟩
  obtain ⟨G1, G2, G3, G4, G5⟩ := g2
  have hC : c_r_act (d + 2) σ = some (1, σ') := by
    have kc : c_r_keepCommand (d + 1) σ = some (0, σ') := by
      rw [e_r_keepCommand, ← ec, ck_ok _ (by omega), ck_ok _ (by omega), ck_ok _ (by omega), ck_ok _ (by omega), w32_ok (x := c + 1) (by omega), hk, Q1, ← eρ]
      exact g1
    rw [e_r_act, hs, if_neg (by decide), if_pos rfl, kc]
    rfl
  -- the model
  obtain ⟨τ1, e1⟩ : ∃ x, x = ga_up (ga_up (ga_up τ fM_commandAction 0 c X) fM_commandSize 0 c n) fM_commandKind 0 c (σ fR_commandKind 0 0) := ⟨_, rfl⟩
  have h1 : fr [fM_commandAction, fM_commandSize, fM_commandKind] τ τ1 := by rw [e1]; exact fr_trans (fr_u (by decide)) (fr_trans (fr_u (by decide)) (fr_u (by decide)))
  obtain ⟨τ2, e2⟩ : ∃ x, x = am_copy τ1 fM_newWord 0 0 fM_commandWord 0 (8 * c) 8 := ⟨_, rfl⟩
  have h2 : fr [fM_commandWord] τ1 τ2 := by rw [e2]; exact am_copy_fr _ _ _ _ _ _ _ _
  obtain ⟨τ', e3⟩ : ∃ x, x = ga_up τ2 fM_commands 0 0 (c + 1) := ⟨_, rfl⟩
  have h3 : fr [fM_commands] τ2 τ' := by rw [e3]; exact fr_u (by decide)
  have hM : c_m_does1 (d + 2) τ first = some (0, τ') := by
    have me := m_meansA ET (tkT_r τ) E3 R0 (d := d) (by omega) 11
    have me' : c_m_meansRun d τ 0 11 = some (X, τ) := by rw [me, mN_dN (s := 8) (by omega), ← hX]; rfl
    have dc : c_m_doCommand (d + 1) τ = some (0, τ') := by
      rw [e_m_doCommand, me']
      simp only [Option.bind_some]
      rw [ec', ck_ok _ (by omega), ck_ok _ (by omega), ck_ok _ (by omega), Q2, Q5, ← e1, w32_ok (x := 8 * c) (by omega), s_cpy_cm (by omega) τ1 (by omega), ← e2]
      simp only [Option.bind_some]
      rw [h2 fM_commands (by decide), h1 fM_commands (by decide), ec', w32_ok (x := c + 1) (by omega), ← e3]
    rw [e_m_does1, ht, if_neg (by decide), if_pos rfl, dc]
    rfl
  have fC : fr a1C σ σ' := fr_trans (fr_sub f1 (by decide)) (fr_sub G1 (by decide))
  have fM : fr a1M τ τ' := fr_trans (fr_sub h1 (by decide)) (fr_trans (fr_sub h2 (by decide)) (fr_sub h3 (by decide)))
  have y1 : τ' fM_commands 0 0 = c + 1 := by rw [e3, up_eq]
  have y2 : ∀ i, τ' fM_commandAction 0 i = if i = c then X else τ fM_commandAction 0 i := by
    intro i; rw [h3 _ (by decide), h2 _ (by decide), e1, up_F (by decide), up_F (by decide), up_at]
  have y3 : ∀ i, τ' fM_commandSize 0 i = if i = c then n else τ fM_commandSize 0 i := by
    intro i; rw [h3 _ (by decide), h2 _ (by decide), e1, up_F (by decide), up_at, up_F (by decide)]
  have y4 : ∀ i, τ' fM_commandKind 0 i = if i = c then σ fR_commandKind 0 0 else τ fM_commandKind 0 i := by
    intro i; rw [h3 _ (by decide), h2 _ (by decide), e1, up_at, up_F (by decide), up_F (by decide)]
  have y5 : ∀ k, 0 ≤ k → k < 8 → τ' fM_commandWord 0 (8 * c + k) = τ fM_newWord 0 k := by
    intro k k0 k1
    rw [h3 _ (by decide), e2, am_copy_at _ _ _ _ _ _ _ _ (by omega), h1 _ (by decide), show 8 * c + k - 8 * c + 0 = k by omega]
  have y6 : ∀ i, i < 8 * c → τ' fM_commandWord 0 i = τ fM_commandWord 0 i := by
    intro i hi
    rw [h3 _ (by decide), e2, am_copy_no _ _ _ _ _ _ _ _ (by omega), h1 _ (by decide)]
  have z1 : σ' fW_commands 0 0 = c + 1 := by rw [G1 _ (by decide)]; exact x1
  have z2 := fun i => (congrFun (congrFun (G1 fW_commandActions (by decide)) 0) i).trans (x2 i)
  have z3 := fun i => (congrFun (congrFun (G1 fW_commandWords (by decide)) 0) i).trans (x3 i)
  have z4 := fun i => (congrFun (congrFun (G1 fW_commandSlots (by decide)) 0) i).trans (x4 i)
  have z5 := fun i => (congrFun (congrFun (G1 fW_commandKinds (by decide)) 0) i).trans (x5 i)
  have sl0 : ρ fR_commandSlot = σ fR_commandSlot := f1 _ (by decide)
  have cf0 : ρ fR_commandFrom = σ fR_commandFrom := f1 _ (by decide)
  have ct0 : ρ fR_commandTo = σ fR_commandTo := f1 _ (by decide)
  rw [sl0, cf0, ct0] at G5
  rw [u0] at G2 G3
  refine ⟨σ', τ', hC, hM, fC, fM, by omega, by omega, fun i i0 i1 => ?_⟩
  unfold cwC
  rw [fC fW_actions (by decide), fC fW_actionKinds (by decide), fC fW_kinds (by decide), fC fW_parents (by decide), y2, y3, y4, z2, z3, z5, z4]
  by_cases q : i = c
  · rw [if_pos q, if_pos q, if_pos q, if_pos q, if_pos q, if_pos q, if_pos q]
    refine ⟨⟨rfl, by omega, by omega⟩, ⟨rfl, by omega, by omega⟩, rfl, Q6, fun k k0 k1 => ?_⟩
    unfold cwR
    rw [z4, if_pos q, q, y5 k k0 (by omega)]
    rcases Q4 k k0 k1 with w | w
    · exact Or.inl w
    · refine Or.inr ⟨w.1, ?_⟩
      obtain ⟨w1, w2, w3, w4, w5⟩ := w
      have g := G5 k k0 k1 w1
      have wl := wdB_len (B := σ fT_bytes 0) (p := σ fR_commandFrom 0 k) (n := σ fR_commandTo 0 k - σ fR_commandFrom 0 k) (by omega)
      refine ⟨_, wdB_W (fun q q0 q1 => w5 q q0 (by omega)), fun z => by rw [z] at wl; simp at wl; omega, by omega, w2, by omega, g.2.1, by omega, fun j j0 j1 => ?_⟩
      rw [g.2.2.2 j j0 (by omega), wdB_get j0 (by omega)]
  · rw [if_neg q, if_neg q, if_neg q, if_neg q, if_neg q, if_neg q, if_neg q]
    obtain ⟨a1, a2, a3, a4, a5⟩ := C3 i i0 (by omega)
    refine ⟨a1, a2, a3, a4, fun k k0 k1 => ?_⟩
    have o := a5 k k0 k1
    have gi := G4 i q
    unfold cwR at o ⊢
    rw [z4, if_neg q, y6 _ (by omega), gi.1, gi.2, f1 fW_commandFrom (by decide), f1 fW_commandSize (by decide)]
    rcases o with w | ⟨w0, w, w1, w2, w3, w4, w5, w6, w7, w8⟩
    · exact Or.inl w
    · refine Or.inr ⟨w0, w, w1, w2, w3, w4, w5, w6, by omega, fun j j0 j1 => ?_⟩
      rw [G3 _ (by omega), f1 _ (by decide)]
      exact w8 j j0 j1
end

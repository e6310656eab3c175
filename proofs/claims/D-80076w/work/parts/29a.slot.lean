/-! what stands in the brackets of a command: words, model -/
def dirW : List Int := [100, 105, 114, 101, 99, 116, 105, 111, 110]
def dirP (i : Nat) : Int := pack (dirW.take i)
theorem dir_ck : (List.range 9).all (fun i => decide (ga_lor (ga_lshl (dirP i) 5) (w32 (am_chr 30 i - 96)) = dirP (i + 1)) && decide (w8 (am_chr 30 i) = dirW.getD i 0) && decide (am_chr 30 i = dirW.getD i 0)) = true := by decide +kernel
theorem dir_len : am_len 30 = 9 := by decide +kernel
theorem dir_at {i : Nat} (h : i < 9) : ga_lor (ga_lshl (dirP i) 5) (w32 (am_chr 30 i - 96)) = dirP (i + 1) ∧ w8 (am_chr 30 i) = dirW.getD i 0 ∧ am_chr 30 i = dirW.getD i 0 := by
  have := List.all_eq_true.mp dir_ck i (List.mem_range.mpr h)
  simp only [Bool.and_eq_true, decide_eq_true_eq] at this
  exact ⟨this.1.1, this.1.2, this.2⟩
theorem dir_W : isW dirW ∧ dirW ≠ [] ∧ dirW.length = 9 := by
  refine ⟨?_, by decide, by decide⟩
  intro c hc
  have : dirW.all (fun c => decide (97 ≤ c ∧ c ≤ 122)) = true := by decide
  exact of_decide_eq_true (List.all_eq_true.mp this c hc)
theorem s_m_packed {τ : ga_S} {d : Nat} (hd : 2 ≤ d) : c_m_packed d τ 30 = some (pack dirW, τ) := by
  obtain ⟨d, rfl⟩ : ∃ e, d = e + 1 := ⟨d - 1, by omega⟩
  have lp : ∀ (m i : Nat), i + m = 9 → m_packed_4 d τ 30 (dirP i) i = some (pack dirW, τ) := by
    intro m
    induction m with
    | zero =>
      intro i hi
      have e : i = 9 := by omega
      subst e
      rw [e_m_packed_4, s_p_len (by omega)]
      simp only [Option.bind_some]
      rw [dir_len, if_neg (by decide)]
      rfl
    | succ m ih =>
      intro i hi
      have a := dir_at (i := i) (by omega)
      rw [e_m_packed_4, s_p_len (by omega)]
      simp only [Option.bind_some]
      rw [dir_len, if_pos (by omega), s_p_chr (by omega) _ _ _ (by rw [dir_len]; omega)]
      simp only [Option.bind_some]
      rw [a.1, w32_ok (by omega)]
      have := ih (i + 1) (by omega)
      push_cast at this
      exact this
  rw [e_m_packed]
  exact lp 9 0 (by omega)
/-- from token k on, all are free words -/
def okF (B : Int → Int) (c a : Int) (M : Nat) (k : Nat) : Prop := sK B true c a M = 8 ∧ ∀ j, k ≤ j → j < M → sK B true c a j = 0
def slM : List Nat := [fM_slotWord, fM_slotWords]
theorem mm_slot_50 {τ : ga_S} {d : Nat} (hd : 3 ≤ d) {e p : Int} (he : e ≤ 5000) : ∀ q, 0 ≤ q → m_slot_50 d τ e p q = m_slot_75 d τ e p (wEnd (τ fM_story 0) e q) := by
  refine pos_ind e fun q ih h0 => ?_
  rw [e_m_slot_50]
  unfold wEnd
  by_cases y : q < e
  · rw [if_pos y, ck_ok _ (by omega), s_m_isLetter hd]
    simp only [Option.bind_some]
    cases z : isLt (τ fM_story 0 q) with
    | false => rw [if_pos b2i_f, sk_x y z]
    | true =>
      rw [if_neg b2i_n, w32_ok (by omega), ih (q + 1) (by omega) y (by omega), sk_s (f := fun q => isLt (τ fM_story 0 q)) y z]; rfl
  · rw [if_neg y, sk_n (by omega)]
theorem wEnd_g {B : Int → Int} {e p : Int} (h : p < e) (w : isLt (B p) = true) : p < wEnd B e p ∧ wEnd B e p ≤ e ∧ ∀ q, p ≤ q → q < wEnd B e p → isLt (B q) = true := by
  have S := sk_all (f := fun q => isLt (B q)) (n := e) p
  have E : wEnd B e p = sk (fun q => isLt (B q)) e p := rfl
  rw [← E] at S
  have h1 : wEnd B e p = wEnd B e (p + 1) := by unfold wEnd; exact sk_s (f := fun q => isLt (B q)) h w
  have h2 := (sk_all (f := fun q => isLt (B q)) (n := e) (p + 1)).1
  have E2 : wEnd B e (p + 1) = sk (fun q => isLt (B q)) e (p + 1) := rfl
  exact ⟨by omega, S.2.1 (by omega), S.2.2.2⟩
/-- one word of a slot -/
theorem m_slot_w {τ : ga_S} {d : Nat} (hd : 4 ≤ d) {e p : Int} (he : e ≤ 5000) (h0 : 0 ≤ p) (hp : p < e) (hk : rKeys τ) (w : isLt (τ fM_story 0 p) = true) (h60 : 0 ≤ τ fM_slotWords 0 0 ∧ τ fM_slotWords 0 0 ≤ 5000) : ∃ τ', m_slot_50 d τ e p p = (if 12 < wEnd (τ fM_story 0) e p - p ∨ wKey (wdB (τ fM_story 0) p (wEnd (τ fM_story 0) e p - p)) ≠ 0 then some (-1, τ) else m_slot_2 d τ' e (wEnd (τ fM_story 0) e p)) ∧ fr slM τ τ' ∧ τ' fM_slotWords 0 0 = τ fM_slotWords 0 0 + 1 ∧ (∀ j, j ≠ τ fM_slotWords 0 0 → τ' fM_slotWord 0 j = τ fM_slotWord 0 j) ∧ (τ fM_slotWords 0 0 < 3 → τ' fM_slotWord 0 (τ fM_slotWords 0 0) = pack (wdB (τ fM_story 0) p (wEnd (τ fM_story 0) e p - p))) := by
  obtain ⟨B, eB⟩ : ∃ z, z = τ fM_story 0 := ⟨_, rfl⟩
  rw [← eB] at w ⊢
  have g := wEnd_g hp w
  obtain ⟨q, eq⟩ : ∃ z, z = wEnd B e p := ⟨_, rfl⟩
  rw [← eq] at g ⊢
  obtain ⟨k, ek⟩ : ∃ z, z = τ fM_slotWords 0 0 := ⟨_, rfl⟩
  rw [← ek] at h60 ⊢
  obtain ⟨W, eW⟩ : ∃ z, z = wdB B p (q - p) := ⟨_, rfl⟩
  have hW : isW W := by rw [eW]; exact wdB_W (fun x y1 y2 => g.2.2 x y1 (by omega))
  obtain ⟨τ1, e1⟩ : ∃ x, x = ga_up (if k < 3 then ga_up τ fM_slotWord 0 k (pack W) else τ) fM_slotWords 0 0 (k + 1) := ⟨_, rfl⟩
  have f1 : fr slM τ τ1 := by
    rw [e1]
    by_cases z : k < 3
    · rw [if_pos z]; exact fr_trans (fr_u (by decide)) (fr_u (by decide))
    · rw [if_neg z]; exact fr_u (by decide)
  refine ⟨τ1, ?_, f1, by rw [e1, up_eq], fun j hj => ?_, fun z => ?_⟩
  · rw [mm_slot_50 (by omega) he p h0, ← eB, ← eq, e_m_slot_75, w32_ok (by omega), ← eW]
    by_cases c1 : 12 < q - p
    · rw [if_pos c1, if_pos (Or.inl c1)]
    · have wo := s_m_wordOf (τ := τ) (d := d) (by omega) h0 (show 0 ≤ q - p by omega) (by omega) (by omega) (fun x y1 y2 => by rw [← eB]; exact g.2.2 x y1 (by omega))
      rw [← eB, ← eW] at wo
      rw [if_neg c1, wo]
      simp only [Option.bind_some]
      rw [s_m_keyOf (by omega) hk hW]
      simp only [Option.bind_some]
      have kr := kI_r KW W
      unfold wKey
      by_cases c2 : kI KW W < 55
      · rw [if_pos c2, if_neg (by omega), if_pos c2, if_pos (Or.inr (by omega))]
      · rw [if_neg c2, if_pos (by trivial), if_neg c2, if_neg (show ¬ (12 < q - p ∨ (0 : Int) ≠ 0) from fun v => v.elim c1 (fun u => u rfl)), ← ek]
        by_cases z : k < 3
        · rw [if_pos z] at e1
          rw [if_pos z, wo]
          simp only [Option.bind_some]
          rw [ck_ok _ (by omega), e_m_slot_135, up_F (F' := fM_slotWords) (by decide), ← ek, w32_ok (by omega), ← e1]
        · rw [if_neg z] at e1
          rw [if_neg z, e_m_slot_135, ← ek, w32_ok (by omega), ← e1]
  · rw [e1, up_F (by decide)]
    by_cases z : k < 3
    · rw [if_pos z, up_i hj]
    · rw [if_neg z]
  · rw [e1, up_F (by decide), if_pos z, up_eq, eW]
/-- where nothing closes it -/
theorem m_slot_no {e : Int} {B : Int → Int} {d : Nat} (hd : 4 ≤ d) (he : e ≤ 5000) : ∀ p, 0 ≤ p → p ≤ e → (∀ q, p ≤ q → q < e → B q ≠ 93) → ∀ τ : ga_S, τ fM_story 0 = B → rKeys τ → (0 ≤ τ fM_slotWords 0 0 ∧ τ fM_slotWords 0 0 ≤ p) → ∃ τ', m_slot_2 d τ e p = some (-1, τ') ∧ fr slM τ τ' := by
  refine pos_ind e fun p ih h0 hp hq τ hB hk hi => ?_
  rw [e_m_slot_2, hB]
  by_cases y : p < e
  · have n93 := hq p (Int.le_refl _) y
    rw [if_pos y, ck_ok _ (by omega), if_neg n93, ck_ok _ (by omega)]
    by_cases z : B p = 32
    · rw [if_pos z, w32_ok (by omega)]
      exact ih (p + 1) (by omega) y (by omega) (by omega) (fun q a b => hq q (by omega) b) τ hB hk (by omega)
    · rw [if_neg z, ck_ok _ (by omega), s_m_isLetter (by omega)]
      simp only [Option.bind_some]
      cases w : isLt (B p) with
      | false => rw [if_pos b2i_f]; exact ⟨τ, rfl, fr_refl _ _⟩
      | true =>
        obtain ⟨τ1, a1, a2, a3, _⟩ := m_slot_w hd he h0 y hk (by rw [hB]; exact w) (by omega)
        rw [hB] at a1
        have g := wEnd_g y w
        rw [if_neg b2i_n, a1]
        by_cases c : 12 < wEnd B e p - p ∨ wKey (wdB B p (wEnd B e p - p)) ≠ 0
        · rw [if_pos c]; exact ⟨τ, rfl, fr_refl _ _⟩
        · rw [if_neg c]
          obtain ⟨τ', g1, g2⟩ := ih (wEnd B e p) g.1 y (by omega) g.2.1 (fun q a b => hq q (by omega) b) τ1 (by rw [a2 _ (by decide)]; exact hB) (fun j x1 x2 => by rw [a2 _ (by decide)]; exact hk j x1 x2) (by omega)
          exact ⟨τ', g1, fr_trans a2 g2⟩
  · rw [if_neg y, e_m_slot_153, if_neg y]
    exact ⟨τ, rfl, fr_refl _ _⟩
/-- where ] closes it -/
theorem m_slot_in {e c a : Int} {B : Int → Int} {M : Nat} {d : Nat} (hd : 4 ≤ d) (he : e ≤ 5000) (hce : c < e) (hC : B c = 93) (ha : 0 ≤ a ∧ a ≤ c) (hac : c - a ≤ 120) (hT : txB B a c) (hq : ∀ q, a ≤ q → q < c → B q ≠ 93) (hN : brN B c a M) : ∀ p, a ≤ p → p ≤ c → ∀ (k : Nat), k ≤ M → bl B true c p = sP B true c a k → (∀ j, j < k → sK B true c a j = 0) → ∀ τ : ga_S, τ fM_story 0 = B → rKeys τ → τ fM_slotWords 0 0 = k → (∀ j : Nat, j < k → j < 3 → τ fM_slotWord 0 j = pack (wx B c a j)) → ∃ τ', fr slM τ τ' ∧ (okF B c a M k ∧ 0 < M → m_slot_2 d τ e p = some (c + 1, τ') ∧ τ' fM_slotWords 0 0 = M ∧ ∀ j : Nat, j < M → j < 3 → τ' fM_slotWord 0 j = pack (wx B c a j)) ∧ (¬ (okF B c a M k ∧ 0 < M) → m_slot_2 d τ e p = some (-1, τ')) := by
  refine pos_ind c fun p ih hap hp k hk hbl hw τ hB hkk hi hin => ?_
  by_cases y : p < c
  · have n93 := hq p hap y
    have tb := hT p hap y
    have k5 : (k : Int) ≤ 5000 := by
      have r := sP_r (B := B) (x := true) (n := c) (a := a) ha k
      by_cases k0 : k = 0
      · omega
      · have s2 := sP_2 (B := B) ha (k - 1) (fun j hj => Or.inl (hw j (by omega)))
        have r2 := sP_r (B := B) (x := true) (n := c) (a := a) ha (k - 1)
        omega
    have e0 : m_slot_2 d τ e p = if B p = 32 then m_slot_2 d τ e (p + 1) else if isLt (B p) = true then m_slot_50 d τ e p p else some (-1, τ) := by
      rw [e_m_slot_2, hB, if_pos (by omega), ck_ok _ (by omega), if_neg n93, ck_ok _ (by omega), w32_ok (by omega), ck_ok _ (by omega), s_m_isLetter (by omega)]
      simp only [Option.bind_some]
      by_cases z : B p = 32
      · rw [if_pos z, if_pos z]
      · rw [if_neg z, if_neg z]
        cases w : isLt (B p) with
        | false => rw [if_pos b2i_f, if_neg (by decide)]
        | true => rw [if_neg b2i_n, if_pos rfl]
    have bs := bl_s (B := B) (x := true) (n := c) y
    rw [if_neg (fun z => by cases z.2), isBl_32 tb.1] at bs
    by_cases z : B p = 32
    · rw [decide_eq_true z, if_pos rfl] at bs
      rw [e0, if_pos z]
      exact ih (p + 1) (by omega) y (by omega) (by omega) k hk (by rw [← bs]; exact hbl) hw τ hB hkk hi hin
    · rw [decide_eq_false z, if_neg (by decide)] at bs
      have ep : p = sP B true c a k := by rw [← bs]; exact hbl
      have tk : sK B true c a k = tkK B true c p := by rw [ep]; rfl
      rw [if_neg z] at e0
      -- a token that isn't free makes it wrong
      have bad : sK B true c a k ≠ 0 → ¬ (okF B c a M k ∧ 0 < M) := by
        intro nz o
        by_cases km : k = M
        · have := o.1.1
          rw [← km, tk] at this
          have e8 := tkK_8.mp this
          omega
        · exact nz (o.1.2 k (Nat.le_refl _) (by omega))
      cases w : isLt (B p) with
      | false =>
        rw [w, if_neg (by decide)] at e0
        refine ⟨τ, fr_refl _ _, fun o => absurd o (bad (fun v => ?_)), fun _ => e0⟩
        have t := tkN_w (x := true) (p := p) (n := c) (B := B) (Or.inl (tk.symm.trans v))
        rw [w] at t
        cases t.2.2.1
      | true =>
        rw [w, if_pos rfl] at e0
        obtain ⟨τ1, a1, a2, a3, a4, a5⟩ := m_slot_w hd he (by omega) (show p < e by omega) hkk (by rw [hB]; exact w) (by rw [hi]; omega)
        rw [hB, wEnd_c (show c ≤ e by omega) hp (Or.inr (by rw [hC]; decide))] at a1 a5
        rw [hi] at a3 a4 a5
        have g := wEnd_g y w
        have kp : tkK B true c p = if 12 < wEnd B c p - p then 7 else wKey (wdB B p (wEnd B c p - p)) := by
          unfold tkK
          rw [if_neg (by omega), if_neg (fun z => by cases z.2), if_pos w]
        by_cases cc : 12 < wEnd B c p - p ∨ wKey (wdB B p (wEnd B c p - p)) ≠ 0
        · rw [if_pos cc] at a1
          refine ⟨τ, fr_refl _ _, fun o => absurd o (bad (fun v => ?_)), fun _ => by rw [e0, a1]⟩
          rw [tk, kp] at v
          by_cases c1 : 12 < wEnd B c p - p
          · rw [if_pos c1] at v; omega
          · rw [if_neg c1] at v; exact (cc.resolve_left c1) v
        · rw [if_neg cc] at a1
          have c1 : ¬ 12 < wEnd B c p - p := fun v => cc (Or.inl v)
          have c2 : wKey (wdB B p (wEnd B c p - p)) = 0 := Classical.byContradiction fun v => cc (Or.inr v)
          rw [if_neg c1, c2] at kp
          have sk0 : sK B true c a k = 0 := by rw [tk]; exact kp
          have km : k < M := by
            refine Classical.byContradiction fun v => ?_
            have : k = M := by omega
            have h := hN.1
            rw [← this, sk0] at h
            omega
          have tN := tkN_w (x := true) (p := p) (n := c) (B := B) (Or.inl kp)
          have eW : wdB B p (wEnd B c p - p) = wx B c a k := by
            unfold wx
            have e3 : sE B true c a k = wEnd B c p := by
              have t : sE B true c a k = tkN B true c (sP B true c a k) := rfl
              rw [t, ← ep, tN.1]
            rw [show ((k : Int)).toNat = k by omega, e3, ← ep]
          have nb : bl B true c (wEnd B c p) = sP B true c a (k + 1) := by
            have t : sP B true c a (k + 1) = bl B true c (tkN B true c (sP B true c a k)) := rfl
            rw [t, ← ep, tN.1]
          have hw' : ∀ j, j < k + 1 → sK B true c a j = 0 := by
            intro j hj
            by_cases v : j = k
            · rw [v]; exact sk0
            · exact hw j (by omega)
          obtain ⟨τ', g1, g2, g3⟩ := ih (wEnd B c p) g.1 y (by omega) g.2.1 (k + 1) (by omega) nb hw' τ1 (by rw [a2 _ (by decide)]; exact hB) (fun j x1 x2 => by rw [a2 _ (by decide)]; exact hkk j x1 x2) (by rw [a3]; push_cast; rfl) (fun j hj h3 => by
            by_cases v : j = k
            · rw [v, a5 (by omega), eW]
            · rw [a4 j (by omega)]
              exact hin j (by omega) h3)
          have oo : okF B c a M k ↔ okF B c a M (k + 1) := by
            constructor
            · intro o; exact ⟨o.1, fun j a b => o.2 j (by omega) b⟩
            · intro o
              refine ⟨o.1, fun j a b => ?_⟩
              by_cases v : j = k
              · rw [v]; exact sk0
              · exact o.2 j (by omega) b
          refine ⟨τ', fr_trans a2 g1, fun o => ?_, fun o => ?_⟩
          · have := g2 ⟨oo.mp o.1, o.2⟩
            exact ⟨by rw [e0, a1]; exact this.1, this.2⟩
          · rw [e0, a1]; exact g3 (fun v => o ⟨oo.mpr v.1, v.2⟩)
  · have ep : p = c := by omega
    have bn : bl B true c p = p := bl_n (by omega)
    have k8 : sK B true c a k = 8 := by
      have t : sK B true c a k = tkK B true c (sP B true c a k) := rfl
      rw [t]
      refine tkK_8.mpr ?_
      omega
    have km : k = M := by
      refine Classical.byContradiction fun v => ?_
      exact absurd k8 (hN.2 k (by omega)).2
    have run : m_slot_2 d τ e p = if 0 < M then some (c + 1, τ) else some (-1, τ) := by
      rw [e_m_slot_2, hB, if_pos (by omega), ck_ok _ (by omega), ep, if_pos hC, e_m_slot_153, if_pos (by omega), hi, km, w32_ok (by omega)]
      by_cases z : 0 < M
      · rw [if_pos z, if_pos (by omega)]
      · rw [if_neg z, if_neg (by omega)]
    refine ⟨τ, fr_refl _ _, fun o => ⟨by rw [run, if_pos o.2], by rw [hi, km], fun j hj h3 => hin j (by omega) h3⟩, fun o => ?_⟩
    rw [run, if_neg (fun v => o ⟨⟨by rw [← km]; exact k8, fun j x1 x2 => by omega⟩, v⟩)]

theorem up_j {i i' : Int} (h : i' ≠ i) (σ : ga_S) (F : Nat) (n v : Int) (G : Nat) (m : Int) : ga_up σ F n i v G m i' = σ G m i' := if_neg (fun z => h z.2.2)
theorem s_m_cut_426 {τ : ga_S} {d : Nat} (hd : 1 ≤ d) (hs : τ fM_storySize 0 0 ≤ 5000) {k q : Int} (hk : 0 ≤ k ∧ k < 5002) (h0 : 0 ≤ q) (h5 : q ≤ 5002) : m_cut_426 d τ k q = m_cut_8 d τ (k + 1) (bl (τ fM_story 0) false (τ fM_storySize 0 0) q) := by
  rw [e_m_cut_426, s_m_blanks hd hs h0 h5]; simp only [Option.bind_some]; rw [w32_ok (by omega)]
theorem cdM_key (k : Int) (h : 9 ≤ k) : cdM k = 91 + k := by
  unfold cdM
  rw [if_neg (by omega), if_neg (by omega), if_neg (by omega), if_neg (by omega), if_neg (by omega), if_neg (by omega), if_neg (by omega), if_neg (by omega), if_neg (by omega)]
theorem bl_r5 {B : Int → Int} {n q : Int} (hn : n ≤ 5000) (h0 : 0 ≤ q) (h5 : q ≤ 5002) : 0 ≤ bl B false n q ∧ bl B false n q ≤ 5002 := by
  have b := bl_all (B := B) (x := false) (n := n) q
  refine ⟨by omega, ?_⟩
  by_cases c : q ≤ n
  · have := b.2.1 c; omega
  · rw [bl_n (by omega)]; exact h5
theorem s_m_cut_32 {τ : ga_S} {d : Nat} (hd : 4 ≤ d) (hs : τ fM_storySize 0 0 ≤ 5000) (hK : rKeys τ) {k p : Int} (hk : 0 ≤ k ∧ k < 5002) (hp : 0 ≤ p) (hpn : p < τ fM_storySize 0 0) : ∃ τ' p', m_cut_32 d τ k p = m_cut_8 d τ' (k + 1) p' ∧ ctP τ τ' k p ∧ 0 ≤ p' ∧ p' ≤ 5002 ∧ (tkK (τ fM_story 0) false (τ fM_storySize 0 0) p ≠ 7 → p' = bl (τ fM_story 0) false (τ fM_storySize 0 0) (tkN (τ fM_story 0) false (τ fM_storySize 0 0) p)) := by
  rw [e_m_cut_32, ck_ok _ (by omega), ck_ok _ hk, s_m_isLetter (by omega)]; simp only [Option.bind_some]
  have hn0 : ¬ τ fM_storySize 0 0 ≤ p := by omega
  cases c1 : isLt (τ fM_story 0 p) with
  | true =>
    have c1' : 97 ≤ lowB (τ fM_story 0 p) ∧ lowB (τ fM_story 0 p) ≤ 122 := of_decide_eq_true c1
    have n91 : ¬ (τ fM_story 0 p = 91 ∧ false = false) := by
      intro z; rw [z.1] at c1'; revert c1'; decide
    have w := sk_all (f := fun q => isLt (τ fM_story 0 q)) (n := τ fM_storySize 0 0) p
    have we : wEnd (τ fM_story 0) (τ fM_storySize 0 0) (p + 1) = wEnd (τ fM_story 0) (τ fM_storySize 0 0) p := by
      unfold wEnd; exact (sk_s (f := fun q => isLt (τ fM_story 0 q)) hpn c1).symm
    have w2 : p ≤ wEnd (τ fM_story 0) (τ fM_storySize 0 0) p ∧ wEnd (τ fM_story 0) (τ fM_storySize 0 0) p ≤ τ fM_storySize 0 0 := ⟨w.1, w.2.1 (by omega)⟩
    have u1 : ∀ F, F ≠ fM_place → (ga_up τ fM_place 0 k p) F = τ F := fun F hF => up_F hF τ 0 k p
    rw [if_neg (by decide), w32_ok (by omega), s_m_cut_58 (by omega) (by rw [u1 fM_storySize (by decide)]; exact hs) k p _ (by omega), u1 fM_story (by decide), u1 fM_storySize (by decide), we, e_m_cut_86, w32_ok (by omega)]
    by_cases c2 : 12 < wEnd (τ fM_story 0) (τ fM_storySize 0 0) p - p
    · have eK : tkK (τ fM_story 0) false (τ fM_storySize 0 0) p = 7 := by
        unfold tkK tkR; rw [if_neg hn0, if_neg n91, if_pos c1, if_pos c2]
      rw [if_pos c2, e_m_cut_100, if_pos (by decide), e_m_cut_128, ck_ok _ hk, if_pos (by decide), e_m_cut_153, ck_ok _ hk, s_m_cut_426 (by omega) (by rw [up_F (by decide), up_F (by decide), u1 fM_storySize (by decide)]; exact hs) hk (by omega) (by omega)]
      refine ⟨_, _, rfl, ?_, ?_, ?_, fun z => absurd eK z⟩
      · refine ⟨fr_trans (fr_trans (fr_u (by decide)) (fr_u (by decide))) (fr_u (by decide)), fun F _ n i hi => ?_, ?_, ?_, ?_, ?_, ?_⟩
        · rw [up_j hi, up_j hi, up_j hi]
        · rw [up_F (by decide), up_F (by decide), up_eq]
        · rw [up_eq, eK]; rfl
        · rw [eK]; omega
        · rw [eK]; omega
        · rw [eK]; omega
      · exact (bl_r5 (by rw [up_F (by decide), up_F (by decide), u1 fM_storySize (by decide)]; exact hs) (by omega) (by omega)).1
      · exact (bl_r5 (by rw [up_F (by decide), up_F (by decide), u1 fM_storySize (by decide)]; exact hs) (by omega) (by omega)).2
    · have eK : tkK (τ fM_story 0) false (τ fM_storySize 0 0) p = wKey (wdB (τ fM_story 0) p (wEnd (τ fM_story 0) (τ fM_storySize 0 0) p - p)) := by
        unfold tkK tkR; rw [if_neg hn0, if_neg n91, if_pos c1, if_neg c2]
      have eN : tkN (τ fM_story 0) false (τ fM_storySize 0 0) p = wEnd (τ fM_story 0) (τ fM_storySize 0 0) p := by
        unfold tkN; rw [if_neg hn0, if_neg n91, if_pos c1]
      have hl : ∀ q, p ≤ q → q < p + (wEnd (τ fM_story 0) (τ fM_storySize 0 0) p - p) → isLt ((ga_up τ fM_place 0 k p) fM_story 0 q) = true := by
        intro q a b
        rw [u1 fM_story (by decide)]
        exact w.2.2.2 q a (by unfold wEnd at b; omega)
      have hW : isW (wdB (τ fM_story 0) p (wEnd (τ fM_story 0) (τ fM_storySize 0 0) p - p)) := by
        refine wdB_W ?_
        rw [u1 fM_story (by decide)] at hl
        exact hl
      rw [if_neg c2, e_m_cut_100, if_neg (by decide), w32_ok (by omega), s_m_wordOf (by omega) hp (by omega) (by omega) (by omega) hl]; simp only [Option.bind_some]; rw [u1 fM_story (by decide), e_m_cut_128, ck_ok _ hk, if_neg (by decide), ck_ok _ hk, up_eq, s_m_keyOf (by omega) (fun j a b => by rw [up_F (by decide), u1 fM_keyWords (by decide)]; exact hK j a b) hW]; simp only [Option.bind_some]; rw [e_m_cut_153, ck_ok _ hk, s_m_cut_426 (by omega) (by rw [up_F (by decide), up_F (by decide), u1 fM_storySize (by decide)]; exact hs) hk (by omega) (by omega)]
      refine ⟨_, _, rfl, ?_, ?_, ?_, fun _ => ?_⟩
      · refine ⟨fr_trans (fr_trans (fr_u (by decide)) (fr_u (by decide))) (fr_u (by decide)), fun F _ n i hi => ?_, ?_, ?_, ?_, ?_, ?_⟩
        · rw [up_j hi, up_j hi, up_j hi]
        · rw [up_F (by decide), up_F (by decide), up_eq]
        · rw [up_eq, eK]
          unfold wKey
          have hr := (kI_r KW (wdB (τ fM_story 0) p (wEnd (τ fM_story 0) (τ fM_storySize 0 0) p - p))).1
          by_cases c3 : kI KW (wdB (τ fM_story 0) p (wEnd (τ fM_story 0) (τ fM_storySize 0 0) p - p)) < 55
          · rw [if_pos c3, if_pos c3, cdM_key _ (by omega)]; omega
          · rw [if_neg c3, if_neg c3]; rfl
        · intro _
          rw [up_F (by decide), up_eq]
        · intro z
          have := wKey_r (wdB (τ fM_story 0) p (wEnd (τ fM_story 0) (τ fM_storySize 0 0) p - p))
          rw [eK] at z
          omega
        · intro z
          have := wKey_r (wdB (τ fM_story 0) p (wEnd (τ fM_story 0) (τ fM_storySize 0 0) p - p))
          rw [eK] at z
          omega
      · exact (bl_r5 (by rw [up_F (by decide), up_F (by decide), u1 fM_storySize (by decide)]; exact hs) (by omega) (by omega)).1
      · exact (bl_r5 (by rw [up_F (by decide), up_F (by decide), u1 fM_storySize (by decide)]; exact hs) (by omega) (by omega)).2
      · rw [up_F (F' := fM_story) (by decide), up_F (F' := fM_story) (by decide), u1 fM_story (by decide), up_F (F' := fM_storySize) (by decide), up_F (F' := fM_storySize) (by decide), u1 fM_storySize (by decide), eN]
  | false =>
    have nL : ¬ isLt (τ fM_story 0 p) = true := by rw [c1]; decide
    have u1 : ∀ F, F ≠ fM_place → (ga_up τ fM_place 0 k p) F = τ F := fun F hF => up_F hF τ 0 k p
    rw [if_pos (by decide), s_m_in (by omega)]; simp only [Option.bind_some]
    show ∃ τ' p', (if b2i (isDg (τ fM_story 0 p)) = 0 then _ else _) = _ ∧ _
    cases c2 : isDg (τ fM_story 0 p) with
    | true =>
      have c2' : 48 ≤ τ fM_story 0 p ∧ τ fM_story 0 p ≤ 57 := of_decide_eq_true c2
      have n91 : ¬ (τ fM_story 0 p = 91 ∧ false = false) := fun z => by omega
      have w := sk_all (f := fun q => isDg (τ fM_story 0 q)) (n := τ fM_storySize 0 0) p
      have w2 : p ≤ dEnd (τ fM_story 0) (τ fM_storySize 0 0) p ∧ dEnd (τ fM_story 0) (τ fM_storySize 0 0) p ≤ τ fM_storySize 0 0 := ⟨w.1, w.2.1 (by omega)⟩
      have eN : tkN (τ fM_story 0) false (τ fM_storySize 0 0) p = dEnd (τ fM_story 0) (τ fM_storySize 0 0) p := by
        unfold tkN; rw [if_neg hn0, if_neg n91, if_neg nL, if_pos c2]
      obtain ⟨wv, e1, e2⟩ := s_m_cut_174 (τ := ga_up τ fM_place 0 k p) (d := d) (by omega) (by rw [u1 fM_storySize (by decide)]; exact hs) k p hp p (Int.le_refl _) (fun j a b => by omega)
      rw [u1 fM_story (by decide), u1 fM_storySize (by decide), if_pos (by omega), Int.sub_self, show dgV (τ fM_story 0) p 0 = 0 by unfold dgV; rw [rg_n (by omega)]; rfl] at e1
      rw [u1 fM_story (by decide), u1 fM_storySize (by decide)] at e2
      rw [if_neg (by decide), e1, e_m_cut_241, ck_ok _ hk, w32_ok (by omega)]
      by_cases c3 : 6 < dEnd (τ fM_story 0) (τ fM_storySize 0 0) p - p
      · have eK : tkK (τ fM_story 0) false (τ fM_storySize 0 0) p = 7 := by
          unfold tkK tkR; rw [if_neg hn0, if_neg n91, if_neg nL, if_pos c2, if_pos c3]
        rw [if_pos c3, e_m_cut_268, ck_ok _ hk, s_m_cut_426 (by omega) (by rw [up_F (by decide), up_F (by decide), u1 fM_storySize (by decide)]; exact hs) hk (by omega) (by omega)]
        refine ⟨_, _, rfl, ?_, ?_, ?_, fun z => absurd eK z⟩
        · refine ⟨fr_trans (fr_trans (fr_u (by decide)) (fr_u (by decide))) (fr_u (by decide)), fun F _ n i hi => ?_, ?_, ?_, ?_, ?_, ?_⟩
          · rw [up_j hi, up_j hi, up_j hi]
          · rw [up_F (by decide), up_F (by decide), up_eq]
          · rw [up_eq, eK]; rfl
          · rw [eK]; omega
          · rw [eK]; omega
          · rw [eK]; omega
        · exact (bl_r5 (by rw [up_F (by decide), up_F (by decide), u1 fM_storySize (by decide)]; exact hs) (by omega) (by omega)).1
        · exact (bl_r5 (by rw [up_F (by decide), up_F (by decide), u1 fM_storySize (by decide)]; exact hs) (by omega) (by omega)).2
      · have eK : tkK (τ fM_story 0) false (τ fM_storySize 0 0) p = 1 := by
          unfold tkK tkR; rw [if_neg hn0, if_neg n91, if_neg nL, if_pos c2, if_neg c3]
        rw [if_neg c3, e_m_cut_268, ck_ok _ hk, s_m_cut_426 (by omega) (by rw [up_F (by decide), up_F (by decide), u1 fM_storySize (by decide)]; exact hs) hk (by omega) (by omega)]
        refine ⟨_, _, rfl, ?_, ?_, ?_, fun _ => ?_⟩
        · refine ⟨fr_trans (fr_trans (fr_u (by decide)) (fr_u (by decide))) (fr_u (by decide)), fun F _ n i hi => ?_, ?_, ?_, ?_, ?_, ?_⟩
          · rw [up_j hi, up_j hi, up_j hi]
          · rw [up_F (by decide), up_F (by decide), up_eq]
          · rw [up_eq, eK]; rfl
          · rw [eK]; omega
          · intro _; rw [up_F (by decide), up_eq]; exact e2 (by omega)
          · rw [eK]; omega
        · exact (bl_r5 (by rw [up_F (by decide), up_F (by decide), u1 fM_storySize (by decide)]; exact hs) (by omega) (by omega)).1
        · exact (bl_r5 (by rw [up_F (by decide), up_F (by decide), u1 fM_storySize (by decide)]; exact hs) (by omega) (by omega)).2
        · rw [up_F (F' := fM_story) (by decide), up_F (F' := fM_story) (by decide), u1 fM_story (by decide), up_F (F' := fM_storySize) (by decide), up_F (F' := fM_storySize) (by decide), u1 fM_storySize (by decide), eN]
    | false =>
      have nD : ¬ isDg (τ fM_story 0 p) = true := by rw [c2]; decide
      rw [if_pos (by decide)]
      by_cases c3 : τ fM_story 0 p = 34
      · have n91 : ¬ (τ fM_story 0 p = 91 ∧ false = false) := fun z => by omega
        have a := sk_all (f := fun q => decide (¬ τ fM_story 0 q = 34)) (n := τ fM_storySize 0 0) (p + 1)
        have e := s_m_cut_281 (τ := ga_up τ fM_place 0 k p) (d := d) (by omega) (by rw [u1 fM_storySize (by decide)]; exact hs) k p (p + 1) (by omega) true
        rw [u1 fM_story (by decide), u1 fM_storySize (by decide), Bool.true_and] at e
        rw [b2i_t] at e
        rw [if_pos c3, w32_ok (by omega), e, e_m_cut_337, u1 fM_storySize (by decide), w32_ok (x := sk (fun q => decide (¬ τ fM_story 0 q = 34)) (τ fM_storySize 0 0) (p + 1) - p) (by omega), w32_ok (by omega)]
        have fin : ∀ t : Int, ∃ τ' p', m_cut_372 d (ga_up τ fM_place 0 k p) k p (sk (fun q => decide (¬ τ fM_story 0 q = 34)) (τ fM_storySize 0 0) (p + 1)) t k = m_cut_8 d τ' (k + 1) p' ∧ τ' = ga_up (ga_up (ga_up τ fM_place 0 k p) fM_token 0 k t) fM_length 0 k (sk (fun q => decide (¬ τ fM_story 0 q = 34)) (τ fM_storySize 0 0) (p + 1) - p - 1) ∧ p' = bl (τ fM_story 0) false (τ fM_storySize 0 0) (sk (fun q => decide (¬ τ fM_story 0 q = 34)) (τ fM_storySize 0 0) (p + 1) + 1) := by
          intro t
          rw [e_m_cut_372, ck_ok _ hk, ck_ok _ hk, w32_ok (x := sk (fun q => decide (¬ τ fM_story 0 q = 34)) (τ fM_storySize 0 0) (p + 1) - p) (by omega), w32_ok (by omega), w32_ok (by omega), s_m_cut_426 (by omega) (by rw [up_F (by decide), up_F (by decide), u1 fM_storySize (by decide)]; exact hs) hk (by omega) (by omega)]
          exact ⟨_, _, rfl, rfl, by rw [up_F (F' := fM_story) (by decide), up_F (F' := fM_story) (by decide), u1 fM_story (by decide), up_F (F' := fM_storySize) (by decide), up_F (F' := fM_storySize) (by decide), u1 fM_storySize (by decide)]⟩
        by_cases ok : qOk (τ fM_story 0) (τ fM_storySize 0 0) p = true
        · have ok' := of_decide_eq_true ok
          have E := (qS_E (B := τ fM_story 0) (n := τ fM_storySize 0 0) (p := p)).mp ⟨ok'.1, ok'.2.1⟩
          have eK : tkK (τ fM_story 0) false (τ fM_storySize 0 0) p = 2 := by
            unfold tkK tkR; rw [if_neg hn0, if_neg n91, if_neg nL, if_neg nD, if_pos c3, if_pos ok]
          have eN : tkN (τ fM_story 0) false (τ fM_storySize 0 0) p = qS (τ fM_story 0) (τ fM_storySize 0 0) p + 1 := by
            unfold tkN; rw [if_neg hn0, if_neg n91, if_neg nL, if_neg nD, if_pos c3, if_pos ok]
          have E2 : sk (fun q => decide (¬ τ fM_story 0 q = 34 ∧ 32 ≤ τ fM_story 0 q ∧ τ fM_story 0 q ≤ 126)) (τ fM_storySize 0 0) (p + 1) = sk (fun q => decide (¬ τ fM_story 0 q = 34)) (τ fM_storySize 0 0) (p + 1) := E.2
          rw [decide_eq_true E2, if_neg (by decide), if_pos E.1, if_neg (by rw [← E.2]; omega)]
          obtain ⟨τ', p', h1, h2, h3⟩ := fin 5
          refine ⟨τ', p', h1, ?_, ?_, ?_, fun _ => ?_⟩
          · rw [h2]
            refine ⟨fr_trans (fr_trans (fr_u (by decide)) (fr_u (by decide))) (fr_u (by decide)), fun F _ n i hi => ?_, ?_, ?_, ?_, ?_, ?_⟩
            · rw [up_j hi, up_j hi, up_j hi]
            · rw [up_F (by decide), up_F (by decide), up_eq]
            · rw [up_F (by decide), up_eq, eK]; rfl
            · rw [eK]; omega
            · rw [eK]; omega
            · intro _; rw [up_eq, E.2]
          · rw [h3]; exact (bl_r5 hs (by omega) (by omega)).1
          · rw [h3]; exact (bl_r5 hs (by omega) (by omega)).2
          · rw [h3, eN, E.2]
        · have eK : tkK (τ fM_story 0) false (τ fM_storySize 0 0) p = 7 := by
            unfold tkK tkR; rw [if_neg hn0, if_neg n91, if_neg nL, if_neg nD, if_pos c3, if_neg ok]
          obtain ⟨τ', p', h1, h2, h3⟩ := fin 2
          refine ⟨τ', p', ?_, ?_, ?_, ?_, fun z => absurd eK z⟩
          · rw [← h1, ← e_m_cut_371]
            by_cases g : sk (fun q => decide (¬ τ fM_story 0 q = 34 ∧ 32 ≤ τ fM_story 0 q ∧ τ fM_story 0 q ≤ 126)) (τ fM_storySize 0 0) (p + 1) = sk (fun q => decide (¬ τ fM_story 0 q = 34)) (τ fM_storySize 0 0) (p + 1)
            · rw [decide_eq_true g, if_neg (by decide)]
              by_cases g2 : sk (fun q => decide (¬ τ fM_story 0 q = 34)) (τ fM_storySize 0 0) (p + 1) < τ fM_storySize 0 0
              · have E := (qS_E (B := τ fM_story 0) (n := τ fM_storySize 0 0) (p := p)).mpr ⟨g2, g⟩
                have l : 120 < sk (fun q => decide (¬ τ fM_story 0 q = 34)) (τ fM_storySize 0 0) (p + 1) - p - 1 := by
                  refine Classical.byContradiction fun hc => ok (decide_eq_true ⟨E.1, E.2, ?_⟩)
                  have g' : qS (τ fM_story 0) (τ fM_storySize 0 0) p = sk (fun q => decide (¬ τ fM_story 0 q = 34)) (τ fM_storySize 0 0) (p + 1) := g
                  omega
                rw [if_pos g2, if_pos l]
              · rw [if_neg g2]
            · rw [decide_eq_false g, if_pos (by decide)]
          · rw [h2]
            refine ⟨fr_trans (fr_trans (fr_u (by decide)) (fr_u (by decide))) (fr_u (by decide)), fun F _ n i hi => ?_, ?_, ?_, ?_, ?_, ?_⟩
            · rw [up_j hi, up_j hi, up_j hi]
            · rw [up_F (by decide), up_F (by decide), up_eq]
            · rw [up_F (by decide), up_eq, eK]; rfl
            · rw [eK]; omega
            · rw [eK]; omega
            · rw [eK]; omega
          · rw [h3]; exact (bl_r5 hs (by omega) (by omega)).1
          · rw [h3]; exact (bl_r5 hs (by omega) (by omega)).2
      · have fin : ∀ t : Int, t = cdM (tkK (τ fM_story 0) false (τ fM_storySize 0 0) p) → tkK (τ fM_story 0) false (τ fM_storySize 0 0) p ≠ 0 → tkK (τ fM_story 0) false (τ fM_storySize 0 0) p ≠ 1 → tkK (τ fM_story 0) false (τ fM_storySize 0 0) p ≠ 2 → tkK (τ fM_story 0) false (τ fM_storySize 0 0) p < 9 → (tkK (τ fM_story 0) false (τ fM_storySize 0 0) p ≠ 7 → tkN (τ fM_story 0) false (τ fM_storySize 0 0) p = p + 1) → ∃ τ' p', m_cut_425 d (ga_up τ fM_place 0 k p) k (w32 (p + 1)) t k = m_cut_8 d τ' (k + 1) p' ∧ ctP τ τ' k p ∧ 0 ≤ p' ∧ p' ≤ 5002 ∧ (tkK (τ fM_story 0) false (τ fM_storySize 0 0) p ≠ 7 → p' = bl (τ fM_story 0) false (τ fM_storySize 0 0) (tkN (τ fM_story 0) false (τ fM_storySize 0 0) p)) := by
          intro t ht k0 k1 k2 k9 hN
          rw [e_m_cut_425, ck_ok _ hk, w32_ok (by omega), s_m_cut_426 (by omega) (by rw [up_F (by decide), u1 fM_storySize (by decide)]; exact hs) hk (by omega) (by omega)]
          refine ⟨_, _, rfl, ?_, ?_, ?_, fun z => ?_⟩
          · refine ⟨fr_trans (fr_u (by decide)) (fr_u (by decide)), fun F _ n i hi => ?_, ?_, ?_, ?_, ?_, ?_⟩
            · rw [up_j hi, up_j hi]
            · rw [up_F (by decide), up_eq]
            · rw [up_eq, ht]
            · omega
            · omega
            · omega
          · exact (bl_r5 (by rw [up_F (by decide), u1 fM_storySize (by decide)]; exact hs) (by omega) (by omega)).1
          · exact (bl_r5 (by rw [up_F (by decide), u1 fM_storySize (by decide)]; exact hs) (by omega) (by omega)).2
          · rw [up_F (F' := fM_story) (by decide), u1 fM_story (by decide), up_F (F' := fM_storySize) (by decide), u1 fM_storySize (by decide), hN z]
        rw [if_neg c3]
        have eKK : tkK (τ fM_story 0) false (τ fM_storySize 0 0) p = if τ fM_story 0 p = 91 ∧ false = false then 7 else if τ fM_story 0 p = 46 then 3 else if τ fM_story 0 p = 44 then 4 else if τ fM_story 0 p = 59 then 5 else if τ fM_story 0 p = 58 then 6 else 7 := by
          unfold tkK tkR
          rw [if_neg hn0, if_neg nL, if_neg nD, if_neg c3]
        have eNN : ¬ τ fM_story 0 p = 91 → tkN (τ fM_story 0) false (τ fM_storySize 0 0) p = p + 1 := by
          intro z
          unfold tkN
          rw [if_neg hn0, if_neg (fun y => z y.1), if_neg nL, if_neg nD, if_neg c3]
        by_cases c4 : τ fM_story 0 p = 46
        · have eK : tkK (τ fM_story 0) false (τ fM_storySize 0 0) p = 3 := by rw [eKK, if_neg (fun z => by omega), if_pos c4]
          rw [if_pos c4, e_m_cut_420]
          exact fin _ (by rw [eK, c4]; rfl) (by omega) (by omega) (by omega) (by omega) (fun _ => eNN (by omega))
        · rw [if_neg c4]
          by_cases c5 : τ fM_story 0 p = 44
          · have eK : tkK (τ fM_story 0) false (τ fM_storySize 0 0) p = 4 := by rw [eKK, if_neg (fun z => by omega), if_neg c4, if_pos c5]
            rw [if_pos c5, e_m_cut_420]
            exact fin _ (by rw [eK, c5]; rfl) (by omega) (by omega) (by omega) (by omega) (fun _ => eNN (by omega))
          · rw [if_neg c5]
            by_cases c6 : τ fM_story 0 p = 59
            · have eK : tkK (τ fM_story 0) false (τ fM_storySize 0 0) p = 5 := by rw [eKK, if_neg (fun z => by omega), if_neg c4, if_neg c5, if_pos c6]
              rw [if_pos c6, e_m_cut_420]
              exact fin _ (by rw [eK, c6]; rfl) (by omega) (by omega) (by omega) (by omega) (fun _ => eNN (by omega))
            · rw [if_neg c6]
              by_cases c7 : τ fM_story 0 p = 58
              · have eK : tkK (τ fM_story 0) false (τ fM_storySize 0 0) p = 6 := by rw [eKK, if_neg (fun z => by omega), if_neg c4, if_neg c5, if_neg c6, if_pos c7]
                rw [if_pos c7, e_m_cut_420]
                exact fin _ (by rw [eK, c7]; rfl) (by omega) (by omega) (by omega) (by omega) (fun _ => eNN (by omega))
              · have eK : tkK (τ fM_story 0) false (τ fM_storySize 0 0) p = 7 := by
                  rw [eKK, if_neg c4, if_neg c5, if_neg c6, if_neg c7]; split <;> rfl
                rw [if_neg c7]
                exact fin _ (by rw [eK]; rfl) (by omega) (by omega) (by omega) (by omega) (fun z => absurd eK z)

theorem least {P : Nat → Prop} (h : ∃ k, P k) : ∃ k, P k ∧ ∀ j, j < k → ¬ P j := by
  refine Classical.byContradiction fun hn => ?_
  have : ∀ k, ¬ P k := by
    intro k
    induction k using Nat.strongRecOn with
    | _ k ih => intro hk; exact hn ⟨k, hk, ih⟩
  obtain ⟨k, hk⟩ := h
  exact this k hk
theorem cdM_2 {x : Int} (h0 : 0 ≤ x) (h : x ≠ 7) : cdM x ≠ 2 := by
  unfold cdM
  repeat' split
  all_goals omega
/-- one token of the model's -/
def tkRow (B : Int → Int) (n : Int) (ρ : ga_S) (k : Nat) : Prop := ρ fM_place 0 k = sP B false n 0 k ∧ ρ fM_token 0 k = cdM (sK B false n 0 k) ∧
    ((sK B false n 0 k = 0 ∨ 9 ≤ sK B false n 0 k) → ρ fM_word 0 k = pack (wdB B (sP B false n 0 k) (sE B false n 0 k - sP B false n 0 k))) ∧
    (sK B false n 0 k = 1 → ρ fM_word 0 k = dgV B (sP B false n 0 k) (sE B false n 0 k - sP B false n 0 k)) ∧
    (sK B false n 0 k = 2 → ρ fM_length 0 k = sE B false n 0 k - sP B false n 0 k - 2)
/-- the tokens of the model's story, up to M, which is the end -/
def rTok (τ : ga_S) (M : Nat) : Prop := (M : Int) ≤ 5001 ∧ τ fM_storySize 0 0 ≤ 5000 ∧ 0 ≤ τ fM_storySize 0 0 ∧ τ fM_token 0 M = 1 ∧ τ fM_place 0 M = τ fM_storySize 0 0 ∧
  (∀ k : Nat, k < M → tkRow (τ fM_story 0) (τ fM_storySize 0 0) τ k) ∧
  (∀ k : Nat, k < M → sK (τ fM_story 0) false (τ fM_storySize 0 0) 0 k ≠ 8 ∧ (k + 1 < M → sK (τ fM_story 0) false (τ fM_storySize 0 0) 0 k ≠ 7)) ∧
  (sK (τ fM_story 0) false (τ fM_storySize 0 0) 0 M = 8 ∨ (0 < M ∧ sK (τ fM_story 0) false (τ fM_storySize 0 0) 0 (M - 1) = 7))
/-- where tokens of a sort end -/
theorem tkN_w {B : Int → Int} {x : Bool} {n p : Int} (h : tkK B x n p = 0 ∨ 9 ≤ tkK B x n p) : tkN B x n p = wEnd B n p ∧ p < n ∧ isLt (B p) = true ∧ wEnd B n p - p ≤ 12 := by
  have kr := tkR_r (B := B) (n := n) (p := p)
  unfold tkK at h
  unfold tkN
  by_cases c0 : n ≤ p
  · rw [if_pos c0] at h; omega
  · rw [if_neg c0] at h ⊢
    by_cases c1 : B p = 91 ∧ x = false
    · rw [if_pos c1] at h; omega
    · rw [if_neg c1] at h ⊢
      by_cases c2 : isLt (B p) = true
      · rw [if_pos c2] at h ⊢
        refine ⟨rfl, by omega, c2, ?_⟩
        by_cases c3 : 12 < wEnd B n p - p
        · rw [if_pos c3] at h; omega
        · omega
      · rw [if_neg c2] at h; omega
theorem tkK_R {B : Int → Int} {x : Bool} {n p : Int} (h : 1 ≤ tkK B x n p) (h6 : tkK B x n p ≤ 6) : tkK B x n p = tkR B n p ∧ p < n ∧ ¬ (B p = 91 ∧ x = false) ∧ ¬ isLt (B p) = true := by
  have kr := wKey_r (wdB B p (wEnd B n p - p))
  unfold tkK at h h6 ⊢
  by_cases c0 : n ≤ p
  · rw [if_pos c0] at h6; omega
  · rw [if_neg c0] at h h6 ⊢
    by_cases c1 : B p = 91 ∧ x = false
    · rw [if_pos c1] at h6; omega
    · rw [if_neg c1] at h h6 ⊢
      by_cases c2 : isLt (B p) = true
      · rw [if_pos c2] at h h6
        exfalso
        by_cases c3 : 12 < wEnd B n p - p
        · rw [if_pos c3] at h6; omega
        · rw [if_neg c3] at h h6; omega
      · rw [if_neg c2]; exact ⟨rfl, by omega, c1, c2⟩
theorem tkN_d {B : Int → Int} {x : Bool} {n p : Int} (h : tkK B x n p = 1) : tkN B x n p = dEnd B n p ∧ p < n ∧ isDg (B p) = true ∧ dEnd B n p - p ≤ 6 := by
  obtain ⟨e, h1, h2, h3⟩ := tkK_R (by omega) (by omega : tkK B x n p ≤ 6)
  rw [e] at h
  unfold tkR at h
  unfold tkN
  rw [if_neg (by omega), if_neg h2, if_neg h3]
  by_cases c3 : isDg (B p) = true
  · rw [if_pos c3] at h ⊢
    refine ⟨rfl, h1, c3, ?_⟩
    by_cases c4 : 6 < dEnd B n p - p
    · rw [if_pos c4] at h; omega
    · omega
  · rw [if_neg c3] at h
    exfalso
    revert h
    repeat' split
    all_goals omega
theorem tkN_q {B : Int → Int} {x : Bool} {n p : Int} (h : tkK B x n p = 2) : tkN B x n p = qS B n p + 1 ∧ p < n ∧ B p = 34 ∧ qOk B n p = true := by
  obtain ⟨e, h1, h2, h3⟩ := tkK_R (by omega) (by omega : tkK B x n p ≤ 6)
  rw [e] at h
  unfold tkR at h
  unfold tkN
  rw [if_neg (by omega), if_neg h2, if_neg h3]
  by_cases c3 : isDg (B p) = true
  · rw [if_pos c3] at h; exfalso; revert h; split <;> omega
  · rw [if_neg c3] at h ⊢
    by_cases c4 : B p = 34
    · rw [if_pos c4] at h ⊢
      by_cases c5 : qOk B n p = true
      · rw [if_pos c5]; exact ⟨rfl, h1, c4, c5⟩
      · rw [if_neg c5] at h; omega
    · rw [if_neg c4] at h
      exfalso
      revert h
      repeat' split
      all_goals omega
theorem tkK_8 {B : Int → Int} {x : Bool} {n p : Int} : tkK B x n p = 8 ↔ n ≤ p := by
  have kr := wKey_r (wdB B p (wEnd B n p - p))
  have k2 := tkR_r (B := B) (n := n) (p := p)
  unfold tkK
  by_cases c0 : n ≤ p
  · rw [if_pos c0]; simp [c0]
  · rw [if_neg c0]
    refine ⟨fun h => ?_, fun h => absurd h c0⟩
    exfalso
    revert h
    repeat' split
    all_goals omega
theorem s_m_cut_439 {τ : ga_S} (d : Nat) {k : Int} (hk : 0 ≤ k ∧ k < 5002) : m_cut_439 d τ k = some (0, ga_up (ga_up τ fM_token 0 k 1) fM_place 0 k (τ fM_storySize 0 0)) := by
  rw [e_m_cut_439, ck_ok _ hk, ck_ok _ hk]
theorem ctP_row {B : Int → Int} {n : Int} {ρ τ' : ga_S} {k : Nat} (hB : ρ fM_story 0 = B) (hn : ρ fM_storySize 0 0 = n) (h : ctP ρ τ' k (sP B false n 0 k)) : tkRow B n τ' k := by
  obtain ⟨h1, h2, h3, h4, h5, h6, h7⟩ := h
  rw [hB, hn] at h4 h5 h6 h7
  refine ⟨h3, h4, fun z => ?_, fun z => ?_, fun z => ?_⟩
  · have t := tkN_w (x := false) z
    rw [h5 z]
    show _ = pack (wdB B _ (tkN B false n (sP B false n 0 k) - _))
    rw [t.1]
  · have t := tkN_d (x := false) z
    rw [h6 z]
    show _ = dgV B _ (tkN B false n (sP B false n 0 k) - _)
    rw [t.1]
  · have t := tkN_q (x := false) z
    rw [h7 z]
    show _ = tkN B false n (sP B false n 0 k) - _ - 2
    rw [t.1]; omega
theorem tkRow_up {B : Int → Int} {n : Int} {ρ τ' : ga_S} {j : Nat} {k : Int} (hj : (j : Int) ≠ k) (h : ∀ F, F ∈ ctL → ∀ n i, i ≠ k → τ' F n i = ρ F n i) (hr : tkRow B n ρ j) : tkRow B n τ' j := by
  obtain ⟨h1, h2, h3, h4, h5⟩ := hr
  refine ⟨?_, ?_, fun z => ?_, fun z => ?_, fun z => ?_⟩
  · rw [h fM_place (by decide) 0 j hj]; exact h1
  · rw [h fM_token (by decide) 0 j hj]; exact h2
  · rw [h fM_word (by decide) 0 j hj]; exact h3 z
  · rw [h fM_word (by decide) 0 j hj]; exact h4 z
  · rw [h fM_length (by decide) 0 j hj]; exact h5 z
theorem s_m_cut_8 {B : Int → Int} {n : Int} {d : Nat} (hd : 4 ≤ d) (hs : n ≤ 5000) (hs0 : 0 ≤ n) (N : Nat) (hN : sK B false n 0 N = 7 ∨ sK B false n 0 N = 8) (hb : ∀ j, j < N → sK B false n 0 j ≠ 7 ∧ sK B false n 0 j ≠ 8) : ∀ (m k : Nat) (ρ : ga_S), k + m = N → ρ fM_story 0 = B → ρ fM_storySize 0 0 = n → rKeys ρ → (∀ j : Nat, j < k → tkRow B n ρ j) → ∃ M τ', m_cut_8 d ρ k (sP B false n 0 k) = some (0, τ') ∧ fr ctL ρ τ' ∧ rTok τ' M := by
  have r := sP_r (B := B) (x := false) (n := n) (a := 0) ⟨Int.le_refl _, hs0⟩
  have eN : ∀ k : Nat, k ≤ N → (k : Int) ≤ sP B false n 0 k := fun k hk => sP_k (x := false) ⟨Int.le_refl _, hs0⟩ k (fun j hj => hb j (by omega))
  -- the end at M
  have fin : ∀ (M : Nat) (ρ : ga_S), (M : Int) ≤ 5001 → ρ fM_story 0 = B → ρ fM_storySize 0 0 = n → (∀ j : Nat, j < M → tkRow B n ρ j) → (∀ k : Nat, k < M → sK B false n 0 k ≠ 8 ∧ (k + 1 < M → sK B false n 0 k ≠ 7)) → (sK B false n 0 M = 8 ∨ (0 < M ∧ sK B false n 0 (M - 1) = 7)) → ∃ τ', m_cut_439 d ρ M = some (0, τ') ∧ fr ctL ρ τ' ∧ rTok τ' M := by
    intro M ρ hM hB hn hr h8 hE
    refine ⟨_, s_m_cut_439 d ⟨by omega, by omega⟩, fr_trans (fr_u (by decide)) (fr_u (by decide)), ?_⟩
    have f1 : (ga_up (ga_up ρ fM_token 0 M 1) fM_place 0 M (ρ fM_storySize 0 0)) fM_story = ρ fM_story := by rw [up_F (by decide), up_F (by decide)]
    have f2 : (ga_up (ga_up ρ fM_token 0 M 1) fM_place 0 M (ρ fM_storySize 0 0)) fM_storySize = ρ fM_storySize := by rw [up_F (by decide), up_F (by decide)]
    unfold rTok
    rw [f1, f2, hB, hn]
    refine ⟨hM, hs, hs0, ?_, ?_, fun j hj => ?_, h8, hE⟩
    · rw [up_F (by decide), up_eq]
    · rw [up_eq]
    · exact tkRow_up (k := M) (by omega) (fun F _ n i hi => by rw [up_j hi, up_j hi]) (hr j hj)
  intro m
  induction m with
  | zero =>
    intro k ρ hk hB hn hK hr
    have ek : k = N := by omega
    subst ek
    have ek5 := eN k (Nat.le_refl _)
    have rk := r k
    rw [e_m_cut_8, hn]
    rcases hN with h7 | h8
    · have c1 : sP B false n 0 k < n := by
        refine Classical.byContradiction fun hc => ?_
        have := (tkK_8 (B := B) (x := false) (n := n) (p := sP B false n 0 k)).mpr (by omega)
        rw [show tkK B false n (sP B false n 0 k) = 7 from h7] at this
        omega
      have step : ∃ M τ', m_cut_32 d ρ k (sP B false n 0 k) = some (0, τ') ∧ fr ctL ρ τ' ∧ rTok τ' M := by
        obtain ⟨τ1, p', e1, e2, e3, e4, e5⟩ := s_m_cut_32 (τ := ρ) hd (by rw [hn]; exact hs) hK (k := k) ⟨by omega, by omega⟩ rk.1 (by rw [hn]; exact c1)
        have row := ctP_row hB hn e2
        have hB1 : τ1 fM_story 0 = B := by rw [e2.1 fM_story (by decide)]; exact hB
        have hn1 : τ1 fM_storySize 0 0 = n := by rw [e2.1 fM_storySize (by decide)]; exact hn
        obtain ⟨τ', g1, g2, g3⟩ := fin (k + 1) τ1 (by push_cast; omega) hB1 hn1 (fun j hj => by
          by_cases c : j = k
          · rw [c]; exact row
          · exact tkRow_up (by omega) e2.2.1 (hr j (by omega))) (fun j hj => by
          refine ⟨?_, fun hj2 => (hb j (by omega)).1⟩
          by_cases c : j = k
          · rw [c, h7]; decide
          · exact (hb j (by omega)).2) (Or.inr ⟨by omega, h7⟩)
        refine ⟨k + 1, τ', ?_, fr_trans e2.1 g2, g3⟩
        rw [e1, ← g1, e_m_cut_8, hn1]
        push_cast
        by_cases c : p' < n
        · rw [if_pos c, if_neg (by omega), w32_ok (by omega), ck_ok _ (by omega), show (k : Int) + 1 - 1 = k by omega, row.2.1, if_pos (by rw [h7]; rfl)]
        · rw [if_neg c]
      rw [if_pos c1]
      by_cases c2 : (k : Int) = 0
      · rw [if_pos c2]; exact step
      · have hp := hb (k - 1) (by omega)
        have rw1 := hr (k - 1) (by omega)
        have ec : ((k - 1 : Nat) : Int) = (k : Int) - 1 := by omega
        rw [if_neg c2, w32_ok (by omega), ck_ok _ (by omega), ← ec, rw1.2.1, if_neg (cdM_2 (x := sK B false n 0 (k - 1)) tkK_r.1 hp.1)]
        exact step
    · have c1 : ¬ sP B false n 0 k < n := by
        have := (tkK_8 (B := B) (x := false) (n := n) (p := sP B false n 0 k)).mp h8
        omega
      rw [if_neg c1]
      obtain ⟨τ', g1, g2, g3⟩ := fin k ρ (by omega) hB hn hr (fun j hj => ⟨(hb j hj).2, fun _ => (hb j hj).1⟩) (Or.inl h8)
      exact ⟨k, τ', g1, g2, g3⟩
  | succ m ih =>
    intro k ρ hk hB hn hK hr
    have ek5 := eN k (by omega)
    have rk := r k
    have hk7 := hb k (by omega)
    have c1 := (sP_gt hk7.1 hk7.2).1
    rw [e_m_cut_8, hn, if_pos c1]
    have step : ∃ M τ', m_cut_32 d ρ k (sP B false n 0 k) = some (0, τ') ∧ fr ctL ρ τ' ∧ rTok τ' M := by
      obtain ⟨τ1, p', e1, e2, e3, e4, e5⟩ := s_m_cut_32 (τ := ρ) hd (by rw [hn]; exact hs) hK (k := k) ⟨by omega, by omega⟩ rk.1 (by rw [hn]; exact c1)
      have row := ctP_row hB hn e2
      rw [hB, hn] at e5
      have ep : p' = sP B false n 0 (k + 1) := e5 hk7.1
      have hB1 : τ1 fM_story 0 = B := by rw [e2.1 fM_story (by decide)]; exact hB
      have hn1 : τ1 fM_storySize 0 0 = n := by rw [e2.1 fM_storySize (by decide)]; exact hn
      obtain ⟨M, τ', g1, g2, g3⟩ := ih (k + 1) τ1 (by omega) hB1 hn1 (fun j a b => by rw [e2.1 fM_keyWords (by decide)]; exact hK j a b) (fun j hj => by
        by_cases c : j = k
        · rw [c]; exact row
        · exact tkRow_up (by omega) e2.2.1 (hr j (by omega)))
      refine ⟨M, τ', ?_, fr_trans e2.1 g2, g3⟩
      rw [e1, ep, ← g1]
      push_cast
      rfl
    by_cases c2 : (k : Int) = 0
    · rw [if_pos c2]; exact step
    · have hp := hb (k - 1) (by omega)
      have rw1 := hr (k - 1) (by omega)
      have ec : ((k - 1 : Nat) : Int) = (k : Int) - 1 := by omega
      rw [if_neg c2, w32_ok (by omega), ck_ok _ (by omega), ← ec, rw1.2.1, if_neg (cdM_2 (x := sK B false n 0 (k - 1)) tkK_r.1 hp.1)]
      exact step
theorem s_m_cut {τ : ga_S} {d : Nat} (hd : 5 ≤ d) (hs : τ fM_storySize 0 0 ≤ 5000) (hs0 : 0 ≤ τ fM_storySize 0 0) (hK : rKeys τ) : ∃ M τ', c_m_cut d τ = some (0, τ') ∧ fr ctL τ τ' ∧ rTok τ' M := by
  obtain ⟨d, rfl⟩ : ∃ e, d = e + 1 := ⟨d - 1, by omega⟩
  obtain ⟨N, hN, hb⟩ := least (P := fun k => sK (τ fM_story 0) false (τ fM_storySize 0 0) 0 k = 7 ∨ sK (τ fM_story 0) false (τ fM_storySize 0 0) 0 k = 8) (by
    obtain ⟨k, _, hk⟩ := sP_stop (B := τ fM_story 0) (x := false) (n := τ fM_storySize 0 0) (a := 0) ⟨Int.le_refl _, hs0⟩
    exact ⟨k, hk⟩)
  obtain ⟨M, τ', e1, e2, e3⟩ := s_m_cut_8 (B := τ fM_story 0) (n := τ fM_storySize 0 0) (d := d) (by omega) hs hs0 N hN (fun j hj => ⟨fun z => hb j hj (Or.inl z), fun z => hb j hj (Or.inr z)⟩) N 0 τ (by omega) rfl rfl hK (fun j hj => absurd hj (by omega))
  refine ⟨M, τ', ?_, e2, e3⟩
  rw [e_m_cut, s_m_blanks (by omega) hs (by omega) (by omega)]; simp only [Option.bind_some]
  exact e1

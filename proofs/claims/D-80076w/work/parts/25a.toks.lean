/-! the tokens of a sentence, on both sides -/
theorem kI_get : ∀ (l : List (List Int)) (w : List Int), kI l w < l.length → l.getD (kI l w).toNat [] = w := by
  intro l w
  induction l with
  | nil => intro h; simp [kI] at h
  | cons k r ih =>
    intro h
    unfold kI at h ⊢
    by_cases c : k = w
    · rw [if_pos c]; exact c
    · rw [if_neg c] at h ⊢
      have a := kI_r r w
      rw [List.length_cons] at h
      have b := ih (by omega)
      rw [show (1 + kI r w).toNat = (kI r w).toNat + 1 by omega]
      exact b
theorem wKey_w {w : List Int} {c : Int} (h : wKey w = c) (h9 : 9 ≤ c) : w = KWk (c - 9) := by
  unfold wKey at h
  by_cases g : kI KW w < 55
  · rw [if_pos g] at h
    have a := kI_get KW w (by rw [KW_len]; exact g)
    unfold KWk
    rw [show c - 9 = kI KW w by omega]
    exact a.symm
  · rw [if_neg g] at h; omega
theorem KW_3 : ∀ c : Int, (c = 25 ∨ c = 46 ∨ (52 ≤ c ∧ c ≤ 58)) → 3 ≤ (KWk (c - 9)).length := by
  intro c h
  have : c = 25 ∨ c = 46 ∨ c = 52 ∨ c = 53 ∨ c = 54 ∨ c = 55 ∨ c = 56 ∨ c = 57 ∨ c = 58 := by omega
  rcases this with e | e | e | e | e | e | e | e | e <;> subst e <;> decide
/-- how long the words are that a token needs -/
theorem tkN_3 {B : Int → Int} {x : Bool} {n p : Int} (h : tkK B x n p = 25 ∨ tkK B x n p = 46 ∨ (52 ≤ tkK B x n p ∧ tkK B x n p ≤ 58)) : p + 3 ≤ tkN B x n p := by
  have w := tkN_w (B := B) (x := x) (n := n) (p := p) (by omega)
  have hk : tkK B x n p = wKey (wdB B p (wEnd B n p - p)) := by
    unfold tkK at h ⊢
    have kr := tkR_r (B := B) (n := n) (p := p)
    rw [if_neg (by omega)] at h ⊢
    by_cases c1 : B p = 91 ∧ x = false
    · rw [if_pos c1] at h; omega
    · rw [if_neg c1] at h ⊢
      rw [if_pos w.2.2.1, if_neg (by omega)] at h ⊢
  have a := sk_all (f := fun q => isLt (B q)) (n := n) p
  have g := KW_3 _ h
  rw [← wKey_w (w := wdB B p (wEnd B n p - p)) (c := tkK B x n p) hk.symm (by omega)] at g
  have l := wdB_len (B := B) (p := p) (n := wEnd B n p - p) (by unfold wEnd; omega)
  rw [w.1]
  omega
theorem sP_shift {B : Int → Int} {x : Bool} {n a : Int} {f : Nat} (h : bl B x n a = sP B x n 0 f) : ∀ k : Nat, sP B x n a k = sP B x n 0 (f + k) := by
  intro k
  induction k with
  | zero => exact h
  | succ k ih =>
    show bl B x n (tkN B x n (sP B x n a k)) = bl B x n (tkN B x n (sP B x n 0 (f + k)))
    rw [ih]
/-- places, words, numbers and texts of the tokens 0..N of the component, f.. of the model -/
def TOK (σ τ : ga_S) (f : Int) (N : Nat) : Prop := (σ fT_size 0 0 ≤ 5000 ∧ byteR σ 0) ∧
  (∀ k : Int, 0 ≤ k → k ≤ N → 0 ≤ σ fT_places 0 k ∧ 0 ≤ σ fT_lengths 0 k ∧ σ fT_places 0 k + σ fT_lengths 0 k ≤ σ fT_size 0 0 ∧ τ fM_place 0 (f + k) = σ fT_places 0 k) ∧
  (∀ k : Int, 0 ≤ k → k < N → σ fT_places 0 k < σ fT_places 0 (k + 1)) ∧
  (∀ k : Int, 0 ≤ k → k < N → σ fT_kinds 0 k = 0 → isW (wT σ 0 k) ∧ wT σ 0 k ≠ [] ∧ (wT σ 0 k).length ≤ 12 ∧ τ fM_word 0 (f + k) = pack (wT σ 0 k)) ∧
  (∀ k : Int, 0 ≤ k → k < N → σ fT_kinds 0 k = 1 → σ fT_lengths 0 k ≤ 6 ∧ (∀ q, σ fT_places 0 k ≤ q → q < σ fT_places 0 k + σ fT_lengths 0 k → isDg (σ fT_bytes 0 q) = true) ∧ τ fM_word 0 (f + k) = dgV (σ fT_bytes 0) (σ fT_places 0 k) (σ fT_lengths 0 k)) ∧
  (∀ k : Int, 0 ≤ k → k < N → σ fT_kinds 0 k = 2 → 2 ≤ σ fT_lengths 0 k ∧ σ fT_lengths 0 k ≤ 122 ∧ τ fM_length 0 (f + k) = σ fT_lengths 0 k - 2 ∧ ∀ q, σ fT_places 0 k < q → q < σ fT_places 0 k + σ fT_lengths 0 k - 1 → 32 ≤ σ fT_bytes 0 q ∧ σ fT_bytes 0 q ≤ 126 ∧ σ fT_bytes 0 q ≠ 34)
/-- the component stands where the model's token f begins; all ahead of it is good -/
def POS (σ τ : ga_S) (f : Nat) : Prop := bl (σ fT_bytes 0) false (σ fT_size 0 0) (σ fT_at 0 0) = sP (σ fT_bytes 0) false (σ fT_size 0 0) 0 f ∧ (∀ j, j < f → sK (σ fT_bytes 0) false (σ fT_size 0 0) 0 j ≠ 7 ∧ sK (σ fT_bytes 0) false (σ fT_size 0 0) 0 j ≠ 8)
/-- the bytes are the same -/
def BYT (σ τ : ga_S) : Prop := τ fM_story 0 = σ fT_bytes 0 ∧ τ fM_storySize 0 0 = σ fT_size 0 0 ∧ byteR σ 0
theorem TOK_pos {σ τ : ga_S} {M : Nat} {f : Nat} (hR : rTok τ M) (hB : BYT σ τ) (hi : inT σ 0 = false) (hP : POS σ τ f) {N : Nat} (hb : ∀ j, j < N → vK σ 0 j ≠ 7 ∧ vK σ 0 j ≠ 8) : f + N ≤ M ∧ (∀ k, vP σ 0 k = sP (τ fM_story 0) false (τ fM_storySize 0 0) 0 (f + k) ∧ vK σ 0 k = sK (τ fM_story 0) false (τ fM_storySize 0 0) 0 (f + k) ∧ vE σ 0 k = sE (τ fM_story 0) false (τ fM_storySize 0 0) 0 (f + k)) ∧ (f + N = M ↔ vK σ 0 N = 8) := by
  have S := sP_shift hP.1
  have A : ∀ k, vP σ 0 k = sP (τ fM_story 0) false (τ fM_storySize 0 0) 0 (f + k) ∧ vK σ 0 k = sK (τ fM_story 0) false (τ fM_storySize 0 0) 0 (f + k) ∧ vE σ 0 k = sE (τ fM_story 0) false (τ fM_storySize 0 0) 0 (f + k) := by
    intro k
    unfold vP vK vE sK sE
    rw [hB.1, hB.2.1, hi, S k]
    exact ⟨rfl, rfl, rfl⟩
  have G : ∀ j, j < f + N → sK (τ fM_story 0) false (τ fM_storySize 0 0) 0 j ≠ 7 ∧ sK (τ fM_story 0) false (τ fM_storySize 0 0) 0 j ≠ 8 := by
    intro j hj
    by_cases c : j < f
    · rw [hB.1, hB.2.1]; exact hP.2 j c
    · have := hb (j - f) (by omega)
      rw [(A (j - f)).2.1, show f + (j - f) = j by omega] at this
      exact this
  obtain ⟨r1, r2, r3, r4, r5, r6, r7, r8⟩ := hR
  have le : f + N ≤ M := by
    refine Classical.byContradiction fun hc => ?_
    rcases r8 with r8 | r8
    · exact (G M (by omega)).2 r8
    · exact (G (M - 1) (by omega)).1 r8.2
  refine ⟨le, A, ?_, ?_⟩
  · intro e
    rw [(A N).2.1, e]
    rcases r8 with r8 | r8
    · exact r8
    · exact absurd r8.2 (G (M - 1) (by omega)).1
  · intro e
    rw [(A N).2.1] at e
    refine Classical.byContradiction fun hc => ?_
    exact (r7 (f + N) (by omega)).1 e
theorem TOK_ok {σ0 σ τ : ga_S} {M : Nat} {f : Nat} (hR : rTok τ M) (hB : BYT σ0 τ) (hT : tOk σ0 0) (hi : inT σ0 0 = false) (hP : POS σ0 τ f) {N : Nat} (hF : fr tkL σ0 σ) (hS : snA σ0 σ 0 N) (h7 : vK σ0 0 N ≠ 7) : ENV σ τ f N ∧ LEN (σ fT_places 0) (σ fT_kinds 0) N ∧ TOK σ τ f N ∧ (vK σ0 0 N = 8 → f + N = M) ∧ (vK σ0 0 N = 3 → f + N < M ∧ POS σ τ (f + N + 1)) := by
  obtain ⟨s1, s2, s3, s4, s5, s6, s7⟩ := hS
  obtain ⟨q1, q2, q3⟩ := TOK_pos hR hB hi hP (N := N) (fun j hj => ⟨(s3 j hj).2.1, (s3 j hj).2.2⟩)
  have hR' := hR
  obtain ⟨r1, r2, r3, r4, r5, r6, r7, r8⟩ := hR'
  have eB : σ fT_bytes 0 = σ0 fT_bytes 0 := by rw [hF _ (by decide)]
  have eZ : σ fT_size 0 0 = σ0 fT_size 0 0 := by rw [hF _ (by decide)]
  have S5 : ∀ j : Nat, j ≤ N → σ fT_kinds 0 j = sK (τ fM_story 0) false (τ fM_storySize 0 0) 0 (f + j) ∧ σ fT_places 0 j = sP (τ fM_story 0) false (τ fM_storySize 0 0) 0 (f + j) ∧ σ fT_lengths 0 j = sE (τ fM_story 0) false (τ fM_storySize 0 0) 0 (f + j) - sP (τ fM_story 0) false (τ fM_storySize 0 0) 0 (f + j) := by
    intro j hj
    have a := s5 j hj
    have b := q2 j
    rw [a.1, a.2.1, a.2.2, b.1, b.2.1, b.2.2]
    exact ⟨rfl, rfl, rfl⟩
  have rg0 : ∀ j, 0 ≤ sP (τ fM_story 0) false (τ fM_storySize 0 0) 0 j ∧ sP (τ fM_story 0) false (τ fM_storySize 0 0) 0 j ≤ τ fM_storySize 0 0 ∧ sP (τ fM_story 0) false (τ fM_storySize 0 0) 0 j ≤ sE (τ fM_story 0) false (τ fM_storySize 0 0) 0 j ∧ sE (τ fM_story 0) false (τ fM_storySize 0 0) 0 j ≤ τ fM_storySize 0 0 := fun j => sP_r ⟨Int.le_refl 0, r3⟩ j
  have kN : σ fT_kinds 0 N = vK σ0 0 N := (s5 N (Nat.le_refl _)).1
  have k38 : σ fT_kinds 0 N = 3 ∨ σ fT_kinds 0 N = 8 := by
    rw [kN]
    rcases s2 with c | c | c
    · exact Or.inl c
    · exact absurd c h7
    · exact Or.inr c
  -- token and place of the model
  have tk : ∀ j : Nat, j ≤ N → τ fM_token 0 ((f : Int) + j) = cdM (σ fT_kinds 0 j) ∧ τ fM_place 0 ((f : Int) + j) = σ fT_places 0 j := by
    intro j hj
    have a := S5 j hj
    by_cases c : f + j < M
    · have r := r6 (f + j) c
      rw [a.1, a.2.1, show (f : Int) + (j : Int) = ((f + j : Nat) : Int) by push_cast; rfl]
      exact ⟨r.2.1, r.1⟩
    · have e : j = N := by omega
      subst e
      have e2 : f + j = M := by omega
      have e8 := q3.mp e2
      rw [show (f : Int) + (j : Int) = (M : Int) by omega, r4, r5, kN, e8, a.2.1]
      have := tkK_8.mp (((q2 j).2.1).symm.trans e8)
      have g := rg0 (f + j)
      exact ⟨rfl, by omega⟩
  have gt : ∀ j : Nat, j < N → σ fT_places 0 j < σ fT_places 0 ((j : Int) + 1) := by
    intro j hj
    have a := S5 j (by omega)
    have b := S5 (j + 1) (by omega)
    have g := sP_gt (B := τ fM_story 0) (x := false) (n := τ fM_storySize 0 0) (a := 0) (k := f + j) (by rw [← (q2 j).2.1]; exact (s3 j hj).2.1) (by rw [← (q2 j).2.1]; exact (s3 j hj).2.2)
    rw [a.2.1, show (j : Int) + 1 = ((j + 1 : Nat) : Int) by push_cast; rfl, b.2.1]
    exact g.2
  have row : ∀ j : Nat, j < N → tkRow (τ fM_story 0) (τ fM_storySize 0 0) τ (f + j) := fun j hj => r6 (f + j) (by omega)
  refine ⟨?_, ?_, ?_, fun z => q3.mpr z, fun z => ?_⟩
  · refine ⟨by omega, by omega, s4, fun k h0 hk => ?_, k38, fun k h0 hk => ?_⟩
    · obtain ⟨j, rfl⟩ := Int.eq_ofNat_of_zero_le h0
      have a := S5 j (by omega)
      have r := tkK_r (B := τ fM_story 0) (x := false) (n := τ fM_storySize 0 0) (p := sP (τ fM_story 0) false (τ fM_storySize 0 0) 0 (f + j))
      refine ⟨?_, ?_, (tk j (by omega)).1⟩
      · rw [a.1]; exact r.1
      · rw [a.1]; exact r.2
    · obtain ⟨j, rfl⟩ := Int.eq_ofNat_of_zero_le h0
      have a := s3 j (by omega)
      rw [(s5 j (by omega)).1]
      exact ⟨a.1, a.2.2⟩
  · refine ⟨?_, ?_, fun k h0 hk => ?_, fun k h0 hk hc => ?_⟩
    · have a := S5 0 (Nat.zero_le _)
      have b := (rg0 (f + 0)).1
      rw [← a.2.1] at b
      exact b
    · have a := S5 N (Nat.le_refl _)
      rw [a.2.1]
      have := rg0 (f + N)
      omega
    · obtain ⟨j, rfl⟩ := Int.eq_ofNat_of_zero_le h0
      exact Int.le_of_lt (gt j (by omega))
    · obtain ⟨j, rfl⟩ := Int.eq_ofNat_of_zero_le h0
      have a := S5 j (by omega)
      have b := S5 (j + 1) (by omega)
      rw [a.1] at hc
      have g := tkN_3 hc
      have l := (bl_all (B := τ fM_story 0) (x := false) (n := τ fM_storySize 0 0) (tkN (τ fM_story 0) false (τ fM_storySize 0 0) (sP (τ fM_story 0) false (τ fM_storySize 0 0) 0 (f + j)))).1
      rw [show (j : Int) + 1 = ((j + 1 : Nat) : Int) by push_cast; rfl, a.2.1, b.2.1]
      have e : sP (τ fM_story 0) false (τ fM_storySize 0 0) 0 (f + (j + 1)) = bl (τ fM_story 0) false (τ fM_storySize 0 0) (tkN (τ fM_story 0) false (τ fM_storySize 0 0) (sP (τ fM_story 0) false (τ fM_storySize 0 0) 0 (f + j))) := rfl
      rw [e]
      omega
  · refine ⟨⟨by rw [eZ]; exact hT.2.1, fun i => by rw [eB]; exact hB.2.2 i⟩, fun k h0 hk => ?_, fun k h0 hk => ?_, fun k h0 hk hc => ?_, fun k h0 hk hc => ?_, fun k h0 hk hc => ?_⟩
    · obtain ⟨j, rfl⟩ := Int.eq_ofNat_of_zero_le h0
      have a := S5 j (by omega)
      have g := rg0 (f + j)
      refine ⟨by rw [a.2.1]; exact g.1, by rw [a.2.2]; omega, ?_, (tk j (by omega)).2⟩
      rw [a.2.1, a.2.2, eZ, ← hB.2.1]
      omega
    · obtain ⟨j, rfl⟩ := Int.eq_ofNat_of_zero_le h0
      exact gt j (by omega)
    · obtain ⟨j, rfl⟩ := Int.eq_ofNat_of_zero_le h0
      have a := S5 j (by omega)
      have r := row j (by omega)
      rw [a.1] at hc
      have w := tkN_w (Or.inl hc)
      have sa := sk_all (f := fun q => isLt ((τ fM_story 0) q)) (n := τ fM_storySize 0 0) (sP (τ fM_story 0) false (τ fM_storySize 0 0) 0 (f + j))
      have e : wT σ 0 (j : Int) = wdB (τ fM_story 0) (sP (τ fM_story 0) false (τ fM_storySize 0 0) 0 (f + j)) (sE (τ fM_story 0) false (τ fM_storySize 0 0) 0 (f + j) - sP (τ fM_story 0) false (τ fM_storySize 0 0) 0 (f + j)) := by
        unfold wT
        rw [eB, ← hB.1, a.2.1, a.2.2]
      have ee : sE (τ fM_story 0) false (τ fM_storySize 0 0) 0 (f + j) = wEnd (τ fM_story 0) (τ fM_storySize 0 0) (sP (τ fM_story 0) false (τ fM_storySize 0 0) 0 (f + j)) := w.1
      have gtp : sP (τ fM_story 0) false (τ fM_storySize 0 0) 0 (f + j) < wEnd (τ fM_story 0) (τ fM_storySize 0 0) (sP (τ fM_story 0) false (τ fM_storySize 0 0) 0 (f + j)) := by
        have := (tkN_gt (B := τ fM_story 0) (x := false) (n := τ fM_storySize 0 0) (p := sP (τ fM_story 0) false (τ fM_storySize 0 0) 0 (f + j)) (by show sK _ _ _ _ _ ≠ 7; rw [hc]; decide) (by show sK _ _ _ _ _ ≠ 8; rw [hc]; decide)).2
        rw [w.1] at this
        exact this
      have len := wdB_len (B := τ fM_story 0) (p := sP (τ fM_story 0) false (τ fM_storySize 0 0) 0 (f + j)) (n := sE (τ fM_story 0) false (τ fM_storySize 0 0) 0 (f + j) - sP (τ fM_story 0) false (τ fM_storySize 0 0) 0 (f + j)) (by omega)
      rw [e]
      refine ⟨wdB_W (fun q h1 h2 => ?_), ?_, ?_, ?_⟩
      · exact sa.2.2.2 q h1 (by unfold wEnd at ee; omega)
      · intro z
        rw [z] at len
        simp at len
        omega
      · have := w.2.2.2
        omega
      · rw [show (f : Int) + (j : Int) = ((f + j : Nat) : Int) by push_cast; rfl]
        exact r.2.2.1 (Or.inl hc)
    · obtain ⟨j, rfl⟩ := Int.eq_ofNat_of_zero_le h0
      have a := S5 j (by omega)
      have r := row j (by omega)
      rw [a.1] at hc
      have w := tkN_d hc
      have sa := sk_all (f := fun q => isDg ((τ fM_story 0) q)) (n := τ fM_storySize 0 0) (sP (τ fM_story 0) false (τ fM_storySize 0 0) 0 (f + j))
      have ee : sE (τ fM_story 0) false (τ fM_storySize 0 0) 0 (f + j) = dEnd (τ fM_story 0) (τ fM_storySize 0 0) (sP (τ fM_story 0) false (τ fM_storySize 0 0) 0 (f + j)) := w.1
      rw [a.2.1, a.2.2, eB, ← hB.1]
      refine ⟨by have := w.2.2.2; omega, fun q h1 h2 => sa.2.2.2 q h1 (by unfold dEnd at ee; omega), ?_⟩
      rw [show (f : Int) + (j : Int) = ((f + j : Nat) : Int) by push_cast; rfl]
      exact r.2.2.2.1 hc
    · obtain ⟨j, rfl⟩ := Int.eq_ofNat_of_zero_le h0
      have a := S5 j (by omega)
      have r := row j (by omega)
      rw [a.1] at hc
      have w := tkN_q hc
      have qo := of_decide_eq_true w.2.2.2
      have sa4 := sk_all (f := fun q => decide (¬ (τ fM_story 0) q = 34 ∧ 32 ≤ (τ fM_story 0) q ∧ (τ fM_story 0) q ≤ 126)) (n := τ fM_storySize 0 0) (sP (τ fM_story 0) false (τ fM_storySize 0 0) 0 (f + j) + 1)
      have sa := sa4.1
      have ee : sE (τ fM_story 0) false (τ fM_storySize 0 0) 0 (f + j) = qS (τ fM_story 0) (τ fM_storySize 0 0) (sP (τ fM_story 0) false (τ fM_storySize 0 0) 0 (f + j)) + 1 := w.1
      have e2 : qS (τ fM_story 0) (τ fM_storySize 0 0) (sP (τ fM_story 0) false (τ fM_storySize 0 0) 0 (f + j)) = sk (fun q => decide (¬ (τ fM_story 0) q = 34 ∧ 32 ≤ (τ fM_story 0) q ∧ (τ fM_story 0) q ≤ 126)) (τ fM_storySize 0 0) (sP (τ fM_story 0) false (τ fM_storySize 0 0) 0 (f + j) + 1) := rfl
      rw [a.2.2]
      refine ⟨by omega, by omega, ?_, fun q h1 h2 => ?_⟩
      · rw [show (f : Int) + (j : Int) = ((f + j : Nat) : Int) by push_cast; rfl]
        exact r.2.2.2.2 hc
      · rw [a.2.1] at h1 h2
        rw [eB, ← hB.1]
        have := of_decide_eq_true (sa4.2.2.2 q (by omega) (by omega))
        exact ⟨this.2.1, this.2.2, this.1⟩
  · have lt : f + N < M := by
      refine Classical.byContradiction fun hc => ?_
      have := q3.mp (by omega)
      omega
    refine ⟨lt, ?_, ?_⟩
    · rw [eB, eZ, s6, (q2 N).2.2, hB.1, hB.2.1]
      rfl
    · intro j hj
      rw [eB, eZ, ← hB.1, ← hB.2.1]
      by_cases c : j < f
      · have := hP.2 j c
        rw [← hB.1, ← hB.2.1] at this
        exact this
      · have e : j = f + (j - f) := by omega
        by_cases c2 : j - f < N
        · have := s3 (j - f) c2
          rw [(q2 (j - f)).2.1, ← e] at this
          exact this.2
        · have e3 : j = f + N := by omega
          rw [(q2 N).2.1, ← e3] at z
          rw [z]
          decide

/-! what words mean in the model -/
theorem lcmp_0 {x y : Int} : ga_lcmp x y = 0 ↔ x = y := by
  unfold ga_lcmp
  by_cases c : x < y
  · rw [if_pos c]; simp; omega
  · rw [if_neg c]
    by_cases c2 : x = y
    · rw [if_pos c2]; simp [c2]
    · rw [if_neg c2]; simp [c2]
def mfP (τ : ga_S) (a b c n k : Int) : Prop := τ fM_lexSize 0 k = n ∧ τ fM_lexWord 0 (3 * k) = a ∧ (n < 2 ∨ τ fM_lexWord 0 (3 * k + 1) = b) ∧ (n < 3 ∨ τ fM_lexWord 0 (3 * k + 2) = c) ∧ τ fM_lexLong 0 k = 0 ∧ ¬ τ fM_lexSort 0 k = -1
noncomputable def mfI (τ : ga_S) (a b c n i : Int) : Int := by
  classical exact match (rg i (τ fM_lexes 0 0)).find? (fun k => decide (mfP τ a b c n k)) with
  | some k => k
  | none => -1
theorem mfI_s {τ : ga_S} {a b c n i : Int} (h : i < τ fM_lexes 0 0) : (mfP τ a b c n i → mfI τ a b c n i = i) ∧ (¬ mfP τ a b c n i → mfI τ a b c n i = mfI τ a b c n (i + 1)) := by
  classical
  unfold mfI
  rw [rg_s h, List.find?_cons]
  constructor
  · intro z; simp [z]
  · intro z; simp [z]
theorem mfI_n {τ : ga_S} {a b c n i : Int} (h : τ fM_lexes 0 0 ≤ i) : mfI τ a b c n i = -1 := by
  classical
  unfold mfI
  rw [rg_n h]; rfl
theorem mfI_r {τ : ga_S} {a b c n : Int} : ∀ i, 0 ≤ i → (mfI τ a b c n i = -1 ∧ ∀ k, i ≤ k → k < τ fM_lexes 0 0 → ¬ mfP τ a b c n k) ∨ (i ≤ mfI τ a b c n i ∧ mfI τ a b c n i < τ fM_lexes 0 0 ∧ mfP τ a b c n (mfI τ a b c n i)) := by
  refine rg_ind (n := τ fM_lexes 0 0) ?_ ?_
  · intro i h _
    exact Or.inl ⟨mfI_n h, fun k a b => by omega⟩
  · intro i h ih h0
    have s := mfI_s (τ := τ) (a := a) (b := b) (c := c) (n := n) h
    by_cases z : mfP τ a b c n i
    · rw [s.1 z]; exact Or.inr ⟨by omega, h, z⟩
    · rw [s.2 z]
      rcases ih (by omega) with e | e
      · refine Or.inl ⟨e.1, fun k h1 h2 => ?_⟩
        by_cases y : k = i
        · rw [y]; exact z
        · exact e.2 k (by omega) h2
      · exact Or.inr ⟨by omega, e.2.1, e.2.2⟩
theorem s_m_find_3 {τ : ga_S} (d : Nat) (hl : τ fM_lexes 0 0 ≤ 300) (a b c n : Int) : ∀ i, 0 ≤ i → m_find_3 d τ a b c n i = some (mfI τ a b c n i, τ) := by
  refine rg_ind (n := τ fM_lexes 0 0) ?_ ?_
  · intro i h h0
    rw [e_m_find_3, if_neg (by omega), mfI_n h]
  · intro i h ih h0
    have s := mfI_s (τ := τ) (a := a) (b := b) (c := c) (n := n) h
    have nx : ¬ mfP τ a b c n i → m_find_107 d τ a b c n i = some (mfI τ a b c n i, τ) := by
      intro z
      rw [e_m_find_107, w32_ok (by omega), ih (by omega), s.2 z]
    rw [e_m_find_3, if_pos h, ck_ok _ (by omega)]
    by_cases c1 : τ fM_lexSize 0 i = n
    · rw [if_pos c1, w32_ok (by omega), ck_ok _ (by omega)]
      by_cases c2 : τ fM_lexWord 0 (3 * i) = a
      · rw [if_pos (lcmp_0.mpr c2)]
        have m83 : (n < 2 ∨ τ fM_lexWord 0 (3 * i + 1) = b) → (n < 3 ∨ τ fM_lexWord 0 (3 * i + 2) = c) → m_find_83 d τ a b c n i = some (mfI τ a b c n i, τ) := by
          intro h2 h3
          rw [e_m_find_83, ck_ok _ (by omega)]
          by_cases c5 : τ fM_lexLong 0 i = 0
          · rw [if_pos c5, ck_ok _ (by omega)]
            by_cases c6 : τ fM_lexSort 0 i = -1
            · rw [if_pos c6, nx (fun z => z.2.2.2.2.2 c6)]
            · rw [if_neg c6, s.1 ⟨c1, c2, h2, h3, c5, c6⟩]
          · rw [if_neg c5, nx (fun z => c5 z.2.2.2.2.1)]
        have m60 : (n < 2 ∨ τ fM_lexWord 0 (3 * i + 1) = b) → m_find_60 d τ a b c n i = some (mfI τ a b c n i, τ) := by
          intro h2
          rw [e_m_find_60]
          by_cases c4 : n < 3
          · rw [if_pos c4, m83 h2 (Or.inl c4)]
          · rw [if_neg c4, w32_ok (x := 3 * i) (by omega), w32_ok (by omega), ck_ok _ (by omega)]
            by_cases c5 : τ fM_lexWord 0 (3 * i + 2) = c
            · rw [if_pos (lcmp_0.mpr c5), m83 h2 (Or.inr c5)]
            · rw [if_neg (fun z => c5 (lcmp_0.mp z)), nx (fun z => by rcases z.2.2.2.1 with y | y; exact c4 y; exact c5 y)]
        by_cases c3 : n < 2
        · rw [if_pos c3, m60 (Or.inl c3)]
        · rw [if_neg c3, w32_ok (by omega), ck_ok _ (by omega)]
          by_cases c4 : τ fM_lexWord 0 (3 * i + 1) = b
          · rw [if_pos (lcmp_0.mpr c4), m60 (Or.inr c4)]
          · rw [if_neg (fun z => c4 (lcmp_0.mp z)), nx (fun z => by rcases z.2.2.1 with y | y; exact c3 y; exact c4 y)]
      · rw [if_neg (fun z => c2 (lcmp_0.mp z)), nx (fun z => c2 z.2.1)]
    · rw [if_neg c1, nx (fun z => c1 z.1)]
theorem s_m_find {τ : ga_S} {d : Nat} (hd : 1 ≤ d) (hl : τ fM_lexes 0 0 ≤ 300) (a b c n : Int) : c_m_find d τ a b c n = some (mfI τ a b c n 0, τ) := by
  obtain ⟨d, rfl⟩ : ∃ e, d = e + 1 := ⟨d - 1, by omega⟩
  rw [e_m_find, s_m_find_3 d hl a b c n 0 (by omega)]
theorem sM_ne {s n : Int} (h0 : 0 ≤ s) (h : s ≤ 12) (h10 : s ≠ 10) : 0 ≤ sM s n ∧ sM s n ≤ 12 := by
  unfold sM
  repeat' split
  all_goals omega
theorem mfP_q {τ : ga_S} {Q : List (List Int)} {a b c k : Int} (h1 : 1 ≤ Q.length) (h3 : Q.length ≤ 3) (ha : a = pack (Q.getD 0 [])) (hb : 1 < Q.length → b = pack (Q.getD 1 [])) (hc : 2 < Q.length → c = pack (Q.getD 2 [])) : mfP τ a b c Q.length k ↔ ((Q.length : Int) = τ fM_lexSize 0 k ∧ (∀ i : Nat, i < Q.length → τ fM_lexWord 0 (3 * k + i) = pack (Q.getD i [])) ∧ τ fM_lexLong 0 k = 0 ∧ ¬ τ fM_lexSort 0 k = -1) := by
  unfold mfP
  constructor
  · intro ⟨z1, z2, z3, z4, z5, z6⟩
    refine ⟨z1.symm, fun i hi => ?_, z5, z6⟩
    have ci : i = 0 ∨ i = 1 ∨ i = 2 := by omega
    rcases ci with e | e | e
    · subst e; simp; rw [z2, ha]; simp
    · subst e
      have := hb hi
      rw [← this]
      rcases z3 with y | y
      · omega
      · exact y
    · subst e
      have := hc hi
      rw [← this]
      rcases z4 with y | y
      · omega
      · exact y
  · intro ⟨z1, z2, z5, z6⟩
    refine ⟨z1.symm, ?_, ?_, ?_, z5, z6⟩
    · have := z2 0 (by omega)
      rw [ha, ← this]; simp
    · by_cases e : (Q.length : Int) < 2
      · exact Or.inl e
      · right
        have := z2 1 (by omega)
        rw [hb (by omega), ← this]; rfl
    · by_cases e : (Q.length : Int) < 3
      · exact Or.inl e
      · right
        have := z2 2 (by omega)
        rw [hc (by omega), ← this]; rfl
theorem RD_find {σ τ : ga_S} (h : RD σ τ) {Q : List (List Int)} (hQ : wsW Q) (h1 : 1 ≤ Q.length) (h3 : Q.length ≤ 3) {a b c : Int} (ha : a = pack (Q.getD 0 [])) (hb : 1 < Q.length → b = pack (Q.getD 1 [])) (hc : 2 < Q.length → c = pack (Q.getD 2 [])) : (fnd σ (jn Q) 0 = -1 → mfI τ a b c Q.length 0 = -1) ∧ (fnd σ (jn Q) 0 ≠ -1 → 0 ≤ mfI τ a b c Q.length 0 ∧ mfI τ a b c Q.length 0 < τ fM_lexes 0 0 ∧ τ fM_lexSort 0 (mfI τ a b c Q.length 0) = sM (σ fD_sorts 0 (fnd σ (jn Q) 0)) (σ fD_numbers 0 (fnd σ (jn Q) 0)) ∧ τ fM_lexIndex 0 (mfI τ a b c Q.length 0) = iM (σ fD_sorts 0 (fnd σ (jn Q) 0)) (σ fD_numbers 0 (fnd σ (jn Q) 0))) := by
  have r := mfI_r (τ := τ) (a := a) (b := b) (c := c) (n := Q.length) 0 (Int.le_refl 0)
  constructor
  · intro e
    rcases r with r | r
    · exact r.1
    · exfalso
      obtain ⟨k, lk, ek⟩ := h.2.2.2.1 _ r.1 r.2.1
      have q := (mfP_q h1 h3 ha hb hc).mp r.2.2
      have en := eM_p hQ ek q.2.2.1 q.1 q.2.1
      exact fnd_n e k lk.1 lk.2.1 lk.2.2 en
  · intro e
    have f := (fnd_r (σ := σ) (nm := jn Q) (Int.le_refl 0)).resolve_left e
    have lf : live σ (fnd σ (jn Q) 0) := ⟨f.1, f.2.1, f.2.2.1⟩
    have sr := h.2.2.2.2.2.2.2 _ lf
    rcases r with r | r
    · exfalso
      obtain ⟨k', h0, hl, ek⟩ := h.2.2.2.2.1 _ lf
      have q := eM_q hQ ek f.2.2.2
      refine r.2 k' h0 hl ((mfP_q h1 h3 ha hb hc).mpr ⟨q.2.1, q.2.2.2.2, q.1, ?_⟩)
      obtain ⟨W, _, _, _, _, _, _, w7, _⟩ := ek
      rw [w7]
      have := sM_ne (n := σ fD_numbers 0 (fnd σ (jn Q) 0)) sr.1 sr.2.1 sr.2.2.1
      omega
    · obtain ⟨k, lk, ek⟩ := h.2.2.2.1 _ r.1 r.2.1
      have q := (mfP_q h1 h3 ha hb hc).mp r.2.2
      have en := eM_p hQ ek q.2.2.1 q.1 q.2.1
      have ekf : k = fnd σ (jn Q) 0 := by
        rw [← en]; exact (RD_fnd h lk).symm
      obtain ⟨W, _, _, _, _, _, _, w7, w8⟩ := ek
      rw [ekf] at w7 w8
      exact ⟨r.1, r.2.1, w7, w8⟩
/-- a name of no word, or of more than three, is none's -/
theorem RD_none {σ τ : ga_S} (h : RD σ τ) {Q : List (List Int)} (hQ : wsW Q) (hn : Q.length < 1 ∨ 3 < Q.length) : fnd σ (jn Q) 0 = -1 := by
  rcases fnd_r (σ := σ) (nm := jn Q) (Int.le_refl 0) with e | f
  · exact e
  · exfalso
    obtain ⟨k', h0, hl, ek⟩ := h.2.2.2.2.1 _ ⟨f.1, f.2.1, f.2.2.1⟩
    have q := eM_q hQ ek f.2.2.2
    omega
/-- a name's meaning in the model's terms -/
def mN (σ : ga_S) (nm : List Int) (ms : Int) : Int := if fnd σ nm 0 = -1 ∨ ¬ sM (σ fD_sorts 0 (fnd σ nm 0)) (σ fD_numbers 0 (fnd σ nm 0)) = ms then -1 else iM (σ fD_sorts 0 (fnd σ nm 0)) (σ fD_numbers 0 (fnd σ nm 0))
/-- tokens of the model have these words -/
def tW (τ : ga_S) (t : Int) (Q : List (List Int)) : Prop := 0 ≤ t ∧ t + Q.length ≤ 5002 ∧ ∀ i : Nat, i < Q.length → τ fM_word 0 (t + i) = pack (Q.getD i [])
theorem s_m_mean {σ τ : ga_S} (h : RD σ τ) {d : Nat} (hd : 2 ≤ d) {Q : List (List Int)} (hQ : wsW Q) {t : Int} (ht : tW τ t Q) : ∃ k', c_m_mean d τ t Q.length = some (k', τ) ∧ (fnd σ (jn Q) 0 = -1 → k' = -1) ∧ (fnd σ (jn Q) 0 ≠ -1 → 0 ≤ k' ∧ k' < τ fM_lexes 0 0 ∧ τ fM_lexSort 0 k' = sM (σ fD_sorts 0 (fnd σ (jn Q) 0)) (σ fD_numbers 0 (fnd σ (jn Q) 0)) ∧ τ fM_lexIndex 0 k' = iM (σ fD_sorts 0 (fnd σ (jn Q) 0)) (σ fD_numbers 0 (fnd σ (jn Q) 0))) := by
  obtain ⟨d, rfl⟩ : ∃ e, d = e + 1 := ⟨d - 1, by omega⟩
  rw [e_m_mean]
  by_cases c1 : (Q.length : Int) < 1
  · have e := RD_none h hQ (Or.inl (by omega))
    rw [if_pos c1, e_m_mean_10]
    exact ⟨-1, rfl, fun _ => rfl, fun z => absurd e z⟩
  · rw [if_neg c1]
    by_cases c2 : 3 < (Q.length : Int)
    · have e := RD_none h hQ (Or.inr (by omega))
      rw [if_pos c2, e_m_mean_10]
      exact ⟨-1, rfl, fun _ => rfl, fun z => absurd e z⟩
    · have w0 := ht.2.2 0 (by omega)
      have hl := h.2.2.1
      have h5 := ht.2.1
      have ht0 := ht.1
      simp only [Int.natCast_zero, Int.add_zero] at w0
      rw [if_neg c2, ck_ok _ (by omega)]
      have fin : ∀ b c : Int, (1 < Q.length → b = pack (Q.getD 1 [])) → (2 < Q.length → c = pack (Q.getD 2 [])) → ∃ k', m_mean_55 d τ Q.length c b (τ fM_word 0 t) = some (k', τ) ∧ (fnd σ (jn Q) 0 = -1 → k' = -1) ∧ (fnd σ (jn Q) 0 ≠ -1 → 0 ≤ k' ∧ k' < τ fM_lexes 0 0 ∧ τ fM_lexSort 0 k' = sM (σ fD_sorts 0 (fnd σ (jn Q) 0)) (σ fD_numbers 0 (fnd σ (jn Q) 0)) ∧ τ fM_lexIndex 0 k' = iM (σ fD_sorts 0 (fnd σ (jn Q) 0)) (σ fD_numbers 0 (fnd σ (jn Q) 0))) := by
        intro b c hb hc
        rw [e_m_mean_55, s_m_find (by omega) hl]; simp only [Option.bind_some]
        exact ⟨_, rfl, RD_find h hQ (by omega) (by omega) w0 hb hc⟩
      have m38 : ∀ b : Int, (1 < Q.length → b = pack (Q.getD 1 [])) → ∃ k', m_mean_38 d τ t Q.length b (τ fM_word 0 t) = some (k', τ) ∧ (fnd σ (jn Q) 0 = -1 → k' = -1) ∧ (fnd σ (jn Q) 0 ≠ -1 → 0 ≤ k' ∧ k' < τ fM_lexes 0 0 ∧ τ fM_lexSort 0 k' = sM (σ fD_sorts 0 (fnd σ (jn Q) 0)) (σ fD_numbers 0 (fnd σ (jn Q) 0)) ∧ τ fM_lexIndex 0 k' = iM (σ fD_sorts 0 (fnd σ (jn Q) 0)) (σ fD_numbers 0 (fnd σ (jn Q) 0))) := by
        intro b hb
        rw [e_m_mean_38]
        by_cases c4 : 2 < (Q.length : Int)
        · rw [if_pos c4, w32_ok (by omega), ck_ok _ (by omega)]
          exact fin b _ hb (fun _ => ht.2.2 2 (by omega))
        · rw [if_neg c4]
          exact fin b 0 hb (fun z => by omega)
      by_cases c3 : 1 < (Q.length : Int)
      · rw [if_pos c3, w32_ok (by omega), ck_ok _ (by omega)]
        exact m38 _ (fun _ => ht.2.2 1 (by omega))
      · rw [if_neg c3]
        exact m38 0 (fun z => by omega)
theorem s_m_means {σ τ : ga_S} (h : RD σ τ) {d : Nat} (hd : 3 ≤ d) {Q : List (List Int)} (hQ : wsW Q) {t : Int} (ht : tW τ t Q) (ms : Int) : c_m_means d τ t Q.length ms = some (mN σ (jn Q) ms, τ) := by
  obtain ⟨d, rfl⟩ : ∃ e, d = e + 1 := ⟨d - 1, by omega⟩
  obtain ⟨k', e, h1, h2⟩ := s_m_mean h (d := d) (by omega) hQ ht
  have hl := h.2.2.1
  rw [e_m_means, e]; simp only [Option.bind_some]
  unfold mN
  by_cases c : fnd σ (jn Q) 0 = -1
  · rw [if_pos (h1 c), if_pos (Or.inl c)]
  · have q := h2 c
    rw [if_neg (by omega), ck_ok _ (by omega), q.2.2.1]
    by_cases c2 : sM (σ fD_sorts 0 (fnd σ (jn Q) 0)) (σ fD_numbers 0 (fnd σ (jn Q) 0)) = ms
    · rw [if_pos c2, ck_ok _ (by omega), if_neg (by simp [c, c2]), q.2.2.2]
    · rw [if_neg c2, if_pos (Or.inr c2)]
theorem mN_dN {σ : ga_S} {nm : List Int} {s ms : Int} (hs : s = 0 ∧ ms = 0 ∨ s = 1 ∧ ms = 2 ∨ s = 2 ∧ ms = 4 ∨ s = 3 ∧ ms = 5 ∨ s = 4 ∧ ms = 6 ∨ s = 5 ∧ ms = 7 ∨ s = 6 ∧ ms = 8 ∨ s = 7 ∧ ms = 9 ∨ s = 8 ∧ ms = 11 ∨ s = 9 ∧ ms = 12 ∨ s = 12 ∧ ms = 10) : mN σ nm ms = dN σ nm s := by
  unfold mN dN
  have key : sM (σ fD_sorts 0 (fnd σ nm 0)) (σ fD_numbers 0 (fnd σ nm 0)) = ms ↔ σ fD_sorts 0 (fnd σ nm 0) = s := by
    unfold sM
    repeat' split
    all_goals omega
  by_cases c : fnd σ nm 0 = -1
  · rw [if_pos (Or.inl c), if_pos (Or.inl c)]
  · by_cases c2 : σ fD_sorts 0 (fnd σ nm 0) = s
    · rw [if_neg (by simp [c, key.mpr c2]), if_neg (by simp [c, c2])]
      unfold iM
      rw [if_neg (by omega)]
    · rw [if_pos (Or.inr (fun z => c2 (key.mp z))), if_pos (Or.inr c2)]
theorem mN_kinds {σ : ga_S} {nm : List Int} (h0 : ∀ k, live σ k → 0 ≤ σ fD_numbers 0 k) : mN σ nm 1 = (if dN σ nm 11 < 100 then dN σ nm 11 else -1) ∧ mN σ nm 3 = (if 100 ≤ dN σ nm 11 then dN σ nm 11 - 100 else -1) := by
  unfold mN dN
  by_cases c : fnd σ nm 0 = -1
  · rw [if_pos (Or.inl c), if_pos (Or.inl c), if_pos (Or.inl c)]; exact ⟨by decide, by decide⟩
  · have f := (fnd_r (σ := σ) (nm := nm) (Int.le_refl 0)).resolve_left c
    have n0 := h0 _ ⟨f.1, f.2.1, f.2.2.1⟩
    have k1 : sM (σ fD_sorts 0 (fnd σ nm 0)) (σ fD_numbers 0 (fnd σ nm 0)) = 1 ↔ (σ fD_sorts 0 (fnd σ nm 0) = 11 ∧ σ fD_numbers 0 (fnd σ nm 0) < 100) := by
      unfold sM
      repeat' split
      all_goals omega
    have k3 : sM (σ fD_sorts 0 (fnd σ nm 0)) (σ fD_numbers 0 (fnd σ nm 0)) = 3 ↔ (σ fD_sorts 0 (fnd σ nm 0) = 11 ∧ 100 ≤ σ fD_numbers 0 (fnd σ nm 0)) := by
      unfold sM
      repeat' split
      all_goals omega
    by_cases c2 : σ fD_sorts 0 (fnd σ nm 0) = 11
    · rw [if_neg (show ¬ (fnd σ nm 0 = -1 ∨ ¬ σ fD_sorts 0 (fnd σ nm 0) = 11) by simp [c, c2])]
      by_cases c3 : σ fD_numbers 0 (fnd σ nm 0) < 100
      · have a1 := k1.mpr ⟨c2, c3⟩
        have a3 : ¬ sM (σ fD_sorts 0 (fnd σ nm 0)) (σ fD_numbers 0 (fnd σ nm 0)) = 3 := fun z => by have := k3.mp z; omega
        refine ⟨?_, ?_⟩
        · rw [if_neg (show ¬ (fnd σ nm 0 = -1 ∨ ¬ sM (σ fD_sorts 0 (fnd σ nm 0)) (σ fD_numbers 0 (fnd σ nm 0)) = 1) from fun z => z.elim c (fun y => y a1)), if_pos c3]
          unfold iM
          rw [if_neg (by omega)]
        · rw [if_pos (show (fnd σ nm 0 = -1 ∨ ¬ sM (σ fD_sorts 0 (fnd σ nm 0)) (σ fD_numbers 0 (fnd σ nm 0)) = 3) from Or.inr a3), if_neg (by omega)]
      · have a3 := k3.mpr ⟨c2, by omega⟩
        have a1 : ¬ sM (σ fD_sorts 0 (fnd σ nm 0)) (σ fD_numbers 0 (fnd σ nm 0)) = 1 := fun z => c3 (k1.mp z).2
        refine ⟨?_, ?_⟩
        · rw [if_pos (show (fnd σ nm 0 = -1 ∨ ¬ sM (σ fD_sorts 0 (fnd σ nm 0)) (σ fD_numbers 0 (fnd σ nm 0)) = 1) from Or.inr a1), if_neg c3]
        · rw [if_neg (show ¬ (fnd σ nm 0 = -1 ∨ ¬ sM (σ fD_sorts 0 (fnd σ nm 0)) (σ fD_numbers 0 (fnd σ nm 0)) = 3) from fun z => z.elim c (fun y => y a3)), if_pos (by omega)]
          unfold iM
          rw [if_pos ⟨c2, by omega⟩]
    · rw [if_pos (Or.inr (fun z => c2 (k1.mp z).1)), if_pos (Or.inr (fun z => c2 (k3.mp z).1)), if_pos (Or.inr c2)]
      exact ⟨by decide, by decide⟩

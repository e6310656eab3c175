/-! one sentence of a story, on both sides -/
def sfL : List Nat := [fM_token, fM_place, fM_word, fM_length, fM_story, fM_storySize]
theorem rTok_f {τ τ' : ga_S} {M : Nat} (h : rTok τ M) (e : ∀ F, F ∈ sfL → τ' F = τ F) : rTok τ' M := by
  have a1 := e fM_token (by decide)
  have a2 := e fM_place (by decide)
  have a3 := e fM_word (by decide)
  have a4 := e fM_length (by decide)
  have a5 := e fM_story (by decide)
  have a6 := e fM_storySize (by decide)
  unfold rTok tkRow at h ⊢
  rw [a1, a2, a3, a4, a5, a6]
  exact h
theorem tkN_kw {B : Int → Int} {x : Bool} {n p : Int} (h : 9 ≤ tkK B x n p) : p + ((KWk (tkK B x n p - 9)).length : Int) ≤ tkN B x n p := by
  have w := tkN_w (B := B) (x := x) (n := n) (p := p) (Or.inr h)
  have hk : tkK B x n p = wKey (wdB B p (wEnd B n p - p)) := by
    unfold tkK at h ⊢
    have kr := tkR_r (B := B) (n := n) (p := p)
    rw [if_neg (by omega)] at h ⊢
    by_cases c1 : B p = 91 ∧ x = false
    · rw [if_pos c1] at h; omega
    · rw [if_neg c1] at h ⊢
      rw [if_pos w.2.2.1, if_neg (by omega)] at h ⊢
  have a := sk_all (f := fun q => isLt (B q)) (n := n) p
  have l := wdB_len (B := B) (p := p) (n := wEnd B n p - p) (by unfold wEnd; omega)
  rw [wKey_w (w := wdB B p (wEnd B n p - p)) (c := tkK B x n p) hk.symm (by omega)] at l
  rw [w.1]
  omega
theorem sP_a {B : Int → Int} {x : Bool} {n a : Int} : ∀ k, a ≤ sP B x n a k := by
  intro k
  induction k with
  | zero => exact (bl_all (B := B) (x := x) (n := n) a).1
  | succ k ih =>
    have b := (bl_all (B := B) (x := x) (n := n) (tkN B x n (sP B x n a k))).1
    have t := (tkN_r (B := B) (x := x) (n := n) (p := sP B x n a k)).1
    show a ≤ bl B x n (tkN B x n (sP B x n a k))
    omega
theorem sP_s {B : Int → Int} {x : Bool} {n a : Int} (k : Nat) : sE B x n a k ≤ sP B x n a (k + 1) := (bl_all (B := B) (x := x) (n := n) (tkN B x n (sP B x n a k))).1
section
variable {σ σ1 τ : ga_S} {f M N : Nat} {g s : Int}
/-- a sentence of the plural takes 14 letters -/
theorem pl_14 (hS : snA σ σ1 0 N) (h3 : vK σ 0 N = 3) (k0 : σ1 fT_kinds 0 0 = 11) (k1 : σ1 fT_kinds 0 1 = 28) (n6 : 6 ≤ (N : Int)) : σ fT_at 0 0 + 14 ≤ vE σ 0 N := by
  obtain ⟨s1, s2, s3, s4, s5, s6, s7⟩ := hS
  have a0 : vK σ 0 0 = 11 := by have := (s5 0 (Nat.zero_le _)).1; rw [← this]; exact k0
  have a1 : vK σ 0 1 = 28 := by have := (s5 1 (by omega)).1; rw [← this]; exact k1
  have w0 := tkN_kw (B := σ fT_bytes 0) (x := inT σ 0) (n := σ fT_size 0 0) (p := vP σ 0 0) (by show 9 ≤ vK σ 0 0; omega)
  have w1 := tkN_kw (B := σ fT_bytes 0) (x := inT σ 0) (n := σ fT_size 0 0) (p := vP σ 0 1) (by show 9 ≤ vK σ 0 1; omega)
  rw [show tkK (σ fT_bytes 0) (inT σ 0) (σ fT_size 0 0) (vP σ 0 0) = 11 from a0, show ((KWk (11 - 9)).length : Int) = 3 from rfl] at w0
  rw [show tkK (σ fT_bytes 0) (inT σ 0) (σ fT_size 0 0) (vP σ 0 1) = 28 from a1, show ((KWk (28 - 9)).length : Int) = 6 from rfl] at w1
  have p0 : σ fT_at 0 0 ≤ vP σ 0 0 := sP_a 0
  have e0 : tkN (σ fT_bytes 0) (inT σ 0) (σ fT_size 0 0) (vP σ 0 0) ≤ vP σ 0 1 := sP_s 0
  have e1 : tkN (σ fT_bytes 0) (inT σ 0) (σ fT_size 0 0) (vP σ 0 1) ≤ vP σ 0 2 := sP_s 1
  have up : ∀ k : Nat, 2 + k ≤ N → vP σ 0 2 + k ≤ vP σ 0 (2 + k) := by
    intro k
    induction k with
    | zero => intro _; show vP σ 0 2 + ((0 : Nat) : Int) ≤ vP σ 0 2; omega
    | succ k ih =>
      intro hk
      have a := ih (by omega)
      have b := s3 (2 + k) (by omega)
      have c : vP σ 0 (2 + k) < vP σ 0 (2 + k + 1) := (sP_gt (B := σ fT_bytes 0) (x := inT σ 0) (n := σ fT_size 0 0) (a := σ fT_at 0 0) (k := 2 + k) b.2.1 b.2.2).2
      rw [show 2 + (k + 1) = 2 + k + 1 by omega]
      push_cast
      omega
  have u := up (N - 2) (by omega)
  rw [show 2 + (N - 2) = N by omega] at u
  have v : vP σ 0 N < vE σ 0 N := (tkN_gt (B := σ fT_bytes 0) (x := inT σ 0) (n := σ fT_size 0 0) (p := vP σ 0 N) (by show vK σ 0 N ≠ 7; omega) (by show vK σ 0 N ≠ 8; omega)).2
  omega
/-- tokens of a sentence that ends in an odd one -/
theorem m_odd (hR : rTok τ M) (hB : BYT σ τ) (hT : tOk σ 0) (hi : inT σ 0 = false) (hP : POS σ τ f) (hS : snA σ σ1 0 N) (h7 : vK σ 0 N = 7) (ha : τ fM_at 0 0 = f) {d : Nat} (hd : 14 ≤ d) : ∃ τ', c_m_oddOf d τ f = some ((f : Int) + N, τ) ∧ c_m_sentence d τ = some (0, τ') ∧ fr seM τ τ' ∧ (f : Int) + N < 5001 ∧ τ fM_token 0 f ≠ 1 ∧ τ fM_place 0 ((f : Int) + N) = vP σ 0 N := by
  obtain ⟨s1, s2, s3, s4, s5, s6, s7⟩ := hS
  obtain ⟨q1, q2, q3⟩ := TOK_pos hR hB hi hP (N := N) (fun j hj => ⟨(s3 j hj).2.1, (s3 j hj).2.2⟩)
  obtain ⟨r1, r2, r3, r4, r5, r6, r7, r8⟩ := hR
  have lt : f + N < M := by
    rcases Nat.lt_or_ge (f + N) M with c | c
    · exact c
    · have := q3.mp (by omega); omega
  have k7 := (q2 N).2.1
  rw [h7] at k7
  have eM : f + N + 1 = M := by
    refine Classical.byContradiction fun hc => ?_
    exact (r7 (f + N) lt).2 (by omega) k7.symm
  have tk : ∀ j : Nat, j ≤ N → τ fM_token 0 ((f : Int) + j) = cdM (vK σ 0 j) := by
    intro j hj
    have r := (r6 (f + j) (by omega)).2.1
    rw [(q2 j).2.1, show (f : Int) + (j : Int) = ((f + j : Nat) : Int) by push_cast; rfl]
    exact r
  have vr : ∀ j, 0 ≤ vK σ 0 j ∧ vK σ 0 j < 64 := fun j => tkK_r
  have G : ∀ j, j < f + N → sK (τ fM_story 0) false (τ fM_storySize 0 0) 0 j ≠ 7 ∧ sK (τ fM_story 0) false (τ fM_storySize 0 0) 0 j ≠ 8 := fun j hj => ⟨(r7 j (by omega)).2 (by omega), (r7 j (by omega)).1⟩
  have pk := sP_k (B := τ fM_story 0) (x := false) (n := τ fM_storySize 0 0) (a := 0) ⟨Int.le_refl _, r3⟩ (f + N) G
  have pn : sP (τ fM_story 0) false (τ fM_storySize 0 0) 0 (f + N) < τ fM_storySize 0 0 := by
    refine Classical.byContradiction fun hc => ?_
    have := (tkK_8 (B := τ fM_story 0) (x := false) (n := τ fM_storySize 0 0) (p := sP (τ fM_story 0) false (τ fM_storySize 0 0) 0 (f + N))).mpr (by omega)
    have e : tkK (τ fM_story 0) false (τ fM_storySize 0 0) (sP (τ fM_story 0) false (τ fM_storySize 0 0) 0 (f + N)) = 7 := k7.symm
    omega
  have pkN : ((f + N : Nat) : Int) = (f : Int) + N := by push_cast; rfl
  rw [pkN] at pk
  have plc : τ fM_place 0 ((f : Int) + N) = vP σ 0 N := by
    have r := (r6 (f + N) lt).1
    rw [(q2 N).1, ← pkN]; exact r
  have t0 : τ fM_token 0 f = cdM (vK σ 0 0) := by
    have := tk 0 (Nat.zero_le _)
    rw [show (f : Int) + ((0 : Nat) : Int) = f by simp] at this
    exact this
  have n8 : vK σ 0 0 ≠ 8 := by
    rcases Nat.eq_zero_or_pos N with z | z
    · rw [z] at h7; omega
    · exact (s3 0 z).2.2
  have tne : τ fM_token 0 f ≠ 1 := by rw [t0, show (1 : Int) = cdM 8 from rfl]; exact fun z => n8 ((cdM_inj (vr 0) (by decide)).mp z)
  have tne5 : τ fM_token 0 f ≠ 5 := by rw [t0, show (5 : Int) = cdM 2 from rfl]; exact fun z => s1 ((cdM_inj (vr 0) (by decide)).mp z)
  have od := m_odd_l (τ := τ) (f := f) (K := N) (by omega) (by omega) (fun j hj => by
    have k := s3 j hj
    have t := tk j (by omega)
    rw [t]
    refine ⟨?_, ?_, ?_⟩
    · rw [show (46 : Int) = cdM 3 from rfl]; exact fun z => k.1 ((cdM_inj (vr j) (by decide)).mp z)
    · rw [show (1 : Int) = cdM 8 from rfl]; exact fun z => k.2.2 ((cdM_inj (vr j) (by decide)).mp z)
    · rw [show (2 : Int) = cdM 7 from rfl]; exact fun z => k.2.1 ((cdM_inj (vr j) (by decide)).mp z)) (Or.inr (Or.inr (by rw [tk N (Nat.le_refl _), h7]; rfl)))
  have tN : τ fM_token 0 ((f : Int) + N) = 2 := by rw [tk N (Nat.le_refl _), h7]; rfl
  obtain ⟨ρ, er⟩ : ∃ x, x = ga_up σ1 fT_kinds 0 ((N : Int) + 1) 8 := ⟨_, rfl⟩
  have kr : ∀ i, ρ fT_kinds 0 i = if i = (N : Int) + 1 then 8 else σ1 fT_kinds 0 i := fun i => by rw [er, up_at]
  have krj : ∀ j : Nat, j ≤ N → ρ fT_kinds 0 j = vK σ 0 j := fun j hj => by rw [kr, if_neg (by omega)]; exact (s5 j hj).1
  have kN1 : ρ fT_kinds 0 ((N + 1 : Nat) : Int) = 8 := by rw [kr, if_pos (by push_cast; rfl)]
  have E : ENV ρ τ f (N + 1) := by
    refine ⟨by omega, by push_cast; omega, by push_cast; omega, fun k h0 hk => ?_, Or.inr kN1, fun k h0 hk => ?_⟩
    · obtain ⟨j, rfl⟩ := Int.eq_ofNat_of_zero_le h0
      by_cases c : j ≤ N
      · rw [krj j c]; exact ⟨(vr j).1, (vr j).2, tk j c⟩
      · have e : j = N + 1 := by omega
        subst e
        rw [kN1, show (f : Int) + ((N + 1 : Nat) : Int) = (M : Int) by rw [← eM]; push_cast; omega, r4]
        exact ⟨by decide, by decide, rfl⟩
    · obtain ⟨j, rfl⟩ := Int.eq_ofNat_of_zero_le h0
      have c : j ≤ N := by omega
      rw [krj j c]
      by_cases c2 : j < N
      · exact ⟨(s3 j c2).1, (s3 j c2).2.2⟩
      · have e : j = N := by omega
        rw [e, h7]; decide
  have rg : ∀ k, 0 ≤ vP σ 0 k ∧ vP σ 0 k ≤ σ fT_size 0 0 := fun k => ⟨(sP_r (B := σ fT_bytes 0) (x := inT σ 0) (n := σ fT_size 0 0) (a := σ fT_at 0 0) hT.2.2.2 k).1, (sP_r (B := σ fT_bytes 0) (x := inT σ 0) (n := σ fT_size 0 0) (a := σ fT_at 0 0) hT.2.2.2 k).2.1⟩
  have Ln : LEN (fun k => if k = (N : Int) + 1 then σ fT_size 0 0 else vP σ 0 k.toNat) (ρ fT_kinds 0) (N + 1) := by
    refine ⟨?_, ?_, fun k h0 hk => ?_, fun k h0 hk hc => ?_⟩
    · show 0 ≤ if (0 : Int) = (N : Int) + 1 then σ fT_size 0 0 else vP σ 0 (0 : Int).toNat
      rw [if_neg (by omega)]; exact (rg _).1
    · show (if ((N + 1 : Nat) : Int) = (N : Int) + 1 then σ fT_size 0 0 else vP σ 0 ((N + 1 : Nat) : Int).toNat) ≤ 5000
      rw [if_pos (by push_cast; rfl)]; exact hT.2.1
    · obtain ⟨j, rfl⟩ := Int.eq_ofNat_of_zero_le h0
      show (if ((j : Nat) : Int) = (N : Int) + 1 then σ fT_size 0 0 else vP σ 0 ((j : Nat) : Int).toNat) ≤ if ((j : Nat) : Int) + 1 = (N : Int) + 1 then σ fT_size 0 0 else vP σ 0 (((j : Nat) : Int) + 1).toNat
      have c : j ≤ N := by omega
      rw [if_neg (by omega), show ((j : Nat) : Int).toNat = j by omega]
      by_cases c2 : j = N
      · rw [if_pos (by omega)]; exact (rg j).2
      · rw [if_neg (by omega), show (((j : Nat) : Int) + 1).toNat = j + 1 by omega]
        have b := s3 j (by omega)
        exact Int.le_of_lt (sP_gt (B := σ fT_bytes 0) (x := inT σ 0) (n := σ fT_size 0 0) (a := σ fT_at 0 0) (k := j) b.2.1 b.2.2).2
    · obtain ⟨j, rfl⟩ := Int.eq_ofNat_of_zero_le h0
      show (if ((j : Nat) : Int) = (N : Int) + 1 then σ fT_size 0 0 else vP σ 0 ((j : Nat) : Int).toNat) + 3 ≤ if ((j : Nat) : Int) + 1 = (N : Int) + 1 then σ fT_size 0 0 else vP σ 0 (((j : Nat) : Int) + 1).toNat
      have c : j ≤ N := by omega
      rw [krj j c] at hc
      by_cases c2 : j = N
      · rw [c2, h7] at hc; omega
      · rw [if_neg (by omega), show ((j : Nat) : Int).toNat = j by omega, if_neg (by omega), show (((j : Nat) : Int) + 1).toNat = j + 1 by omega]
        have t : vP σ 0 j + 3 ≤ tkN (σ fT_bytes 0) (inT σ 0) (σ fT_size 0 0) (vP σ 0 j) := tkN_3 hc
        have u : tkN (σ fT_bytes 0) (inT σ 0) (σ fT_size 0 0) (vP σ 0 j) ≤ vP σ 0 (j + 1) := sP_s j
        omega
  obtain ⟨v, σ', τ', _, x2, _, x4, _⟩ := P_sentence E Ln (by have := krj 0 (Nat.zero_le _); rw [show ((0 : Nat) : Int) = 0 from rfl] at this; rw [this]; exact s1) ha (d := d) (by omega)
  refine ⟨τ', ?_, x2, x4, by omega, tne, plc⟩
  obtain ⟨e, rfl⟩ : ∃ e, d = e + 1 := ⟨d - 1, by omega⟩
  have := od e 0 (Nat.zero_le _)
  rw [if_pos tN, show (f : Int) + ((0 : Nat) : Int) = f by simp] at this
  rw [e_m_oddOf, ck_ok _ (by omega), if_neg tne5]
  exact this
/-- no odd token -/
theorem m_even (hR : rTok τ M) (hB : BYT σ τ) (hi : inT σ 0 = false) (hP : POS σ τ f) (hS : snA σ σ1 0 N) (h7 : vK σ 0 N ≠ 7) (E : ENV σ1 τ f N) {d : Nat} (hd : 1 ≤ d) : c_m_oddOf d τ f = some (-1, τ) := by
  obtain ⟨s1, s2, s3, s4, s5, s6, s7⟩ := hS
  obtain ⟨d, rfl⟩ : ∃ e, d = e + 1 := ⟨d - 1, by omega⟩
  have vr : ∀ j, 0 ≤ vK σ 0 j ∧ vK σ 0 j < 64 := fun j => tkK_r
  have tk : ∀ j : Nat, j ≤ N → τ fM_token 0 ((f : Int) + j) = cdM (vK σ 0 j) := fun j hj => by rw [(E.2.2.2.1 j (by omega) (by omega)).2.2, (s5 j hj).1]
  have eN := E.2.1
  have t0 : τ fM_token 0 f = cdM (vK σ 0 0) := by
    have := tk 0 (Nat.zero_le _)
    rw [show (f : Int) + ((0 : Nat) : Int) = f by simp] at this
    exact this
  have tne5 : τ fM_token 0 f ≠ 5 := by rw [t0, show (5 : Int) = cdM 2 from rfl]; exact fun z => s1 ((cdM_inj (vr 0) (by decide)).mp z)
  have tN := tk N (Nat.le_refl _)
  have od := m_odd_l (τ := τ) (f := f) (K := N) (by omega) (by omega) (fun j hj => by
    have k := s3 j hj
    have t := tk j (by omega)
    rw [t]
    refine ⟨?_, ?_, ?_⟩
    · rw [show (46 : Int) = cdM 3 from rfl]; exact fun z => k.1 ((cdM_inj (vr j) (by decide)).mp z)
    · rw [show (1 : Int) = cdM 8 from rfl]; exact fun z => k.2.2 ((cdM_inj (vr j) (by decide)).mp z)
    · rw [show (2 : Int) = cdM 7 from rfl]; exact fun z => k.2.1 ((cdM_inj (vr j) (by decide)).mp z)) (by
      rw [tN]
      rcases s2 with c | c | c
      · rw [c]; exact Or.inl rfl
      · exact absurd c h7
      · rw [c]; exact Or.inr (Or.inl rfl)) d 0 (Nat.zero_le _)
  rw [if_neg (by rw [tN, show (2 : Int) = cdM 7 from rfl]; exact fun z => h7 ((cdM_inj (vr N) (by decide)).mp z)), show (f : Int) + ((0 : Nat) : Int) = f by simp] at od
  rw [e_m_oddOf, ck_ok _ (by omega), if_neg tne5]
  exact od
end

/-! a phrase, on both sides -/
theorem PR_uQ {σ σ' τ τ' : ga_S} {f : Int} {N : Nat} {j : Int} (hP : PR σ' τ' f N) (hJ : JR σ τ) (h1 : fr pcL σ σ') (h2 : fr pmL τ τ') (h4 : σ' fR_bad 0 0 = -1 → σ fR_bad 0 0 = -1 ∧ σ fR_p 0 0 < σ' fR_p 0 0) : uQ σ σ' τ τ' f N j := tsQ_u (PR_Q hP hJ h1 h2 (fun z => ⟨(h4 z).1, Or.inr (h4 z).2⟩))
/-- a token is taken, with what it leaves -/
theorem U_take {σ τ : ga_S} {f : Int} {N : Nat} (hE : ENV σ τ f N) (h : PR σ τ f N) (hJ : JR σ τ) {d : Nat} (hd : 2 ≤ d) {c m : Int} (hm : m = cdM c) (hc : 0 ≤ c ∧ c < 64) (h3 : c ≠ 3) (h8 : c ≠ 8) (j : Int) : ∃ v σ' τ', c_r_take d σ c = some (v, σ') ∧ c_m_take d τ m = some (0, τ') ∧ uQ σ σ' τ τ' f N j ∧ fr pcL σ σ' ∧ fr pmL τ τ' ∧ (σ' fR_bad 0 0 = -1 → σ fR_bad 0 0 = -1 ∧ σ fT_kinds 0 (σ fR_p 0 0) = c ∧ σ' fR_p 0 0 = σ fR_p 0 0 + 1) := by
  obtain ⟨v, σ', τ', e1, e2, e3, e4, e5, e6, e7⟩ := P_take' hE h hd hm hc h3 h8
  exact ⟨v, σ', τ', e1, e2, PR_uQ e3 hJ e4 e5 (fun z => ⟨(e6.mp z).1, by have := e7 z; omega⟩), e4, e5, fun z => ⟨(e6.mp z).1, (e6.mp z).2, e7 z⟩⟩
/-- stores that differ only in what is kept aside -/
theorem U_up {σ σ' τ τ' : ga_S} {f : Int} {N : Nat} {j : Int} (hP : PR σ τ f N) (hJ : JR σ τ) {LC LM : List Nat} (h1 : fr LC σ σ') (h2 : fr LM τ τ') (hc : LC.all (fun F => tsC.contains F && !([fR_p, fR_bad, fR_runs, fR_runFrom, fR_runTo].contains F)) = true) (hm : LM.all (fun F => tsM.contains F && !([fM_at, fM_isBad, fM_badAt, fM_runs, fM_runFrom, fM_runSize].contains F)) = true) (hk : tKeep τ τ' j) : uQ σ σ' τ τ' f N j := tsQ_u (tsQ_up hP hJ h1 h2 hc hm hk)
/-- a phrase: what holds where it begins -/
def phH (σ τ : ga_S) (f : Int) (N : Nat) (a b : Int) : Prop := ENV σ τ f N ∧ σ fR_bad 0 0 = -1 ∧ 0 ≤ a ∧ toT (σ fT_kinds 0) 1 a b ∧ b ≤ N ∧ (τ fM_isBad 0 0 = 0 ∧ τ fM_at 0 0 = f + a) ∧ (0 ≤ σ fR_runs 0 0 ∧ σ fR_runs 0 0 ≤ τ fM_runs 0 0 ∧ 2 * τ fM_runs 0 0 ≤ a + 1 ∧ (σ fT_kinds 0 a = 0 → 2 * τ fM_runs 0 0 ≤ a)) ∧ (0 ≤ τ fM_tCount 0 0 ∧ τ fM_tCount 0 0 < 1700) ∧ (0 ≤ τ fM_pCount 0 0 ∧ τ fM_pCount 0 0 < 1700)
/-- behind the key of a phrase -/
theorem ph_key {σ τ : ga_S} {f : Int} {N : Nat} {a b : Int} (H : phH σ τ f N a b) {c : Int} (hc : σ fT_kinds 0 a = c) (hc2 : 52 ≤ c ∧ c ≤ 58) (w : Int) : PR (ga_up σ fR_p 0 0 (a + 1)) (ga_up (ga_up (ph0 τ) fM_at 0 0 (f + a + 1)) fM_pWhat 0 (τ fM_pCount 0 0) w) f N ∧ JR (ga_up σ fR_p 0 0 (a + 1)) (ga_up (ga_up (ph0 τ) fM_at 0 0 (f + a + 1)) fM_pWhat 0 (τ fM_pCount 0 0) w) ∧ ENV (ga_up σ fR_p 0 0 (a + 1)) (ga_up (ga_up (ph0 τ) fM_at 0 0 (f + a + 1)) fM_pWhat 0 (τ fM_pCount 0 0) w) f N ∧ toT (σ fT_kinds 0) 1 (a + 1) b ∧ fr [fM_at, fM_pWhat, fM_tWhat] (ph0 τ) (ga_up (ga_up (ph0 τ) fM_at 0 0 (f + a + 1)) fM_pWhat 0 (τ fM_pCount 0 0) w) ∧ pKeep (ph0 τ) (ga_up (ga_up (ph0 τ) fM_at 0 0 (f + a + 1)) fM_pWhat 0 (τ fM_pCount 0 0) w) (τ fM_pCount 0 0) ∧ tKeep (ph0 τ) (ga_up (ga_up (ph0 τ) fM_at 0 0 (f + a + 1)) fM_pWhat 0 (τ fM_pCount 0 0) w) (τ fM_tCount 0 0) := by
  obtain ⟨hE, hb, ha, hT, hbN, hτ, hJ, hj, hi⟩ := H
  have h0 := ph0_fr τ
  have hf := hE.1
  have hN := hE.2.1
  have hN5 := hE.2.2.1
  have hab := hT.1
  have T1 := toT_step hT (by rw [hc]; unfold endT; omega)
  have fm : fr [fM_at, fM_pWhat, fM_tWhat] (ph0 τ) (ga_up (ga_up (ph0 τ) fM_at 0 0 (f + a + 1)) fM_pWhat 0 (τ fM_pCount 0 0) w) := fr_trans (fr_u (by decide)) (fr_u (by decide))
  refine ⟨?_, ?_, ?_, T1, fm, ?_, ?_⟩
  · have := T1.1
    unfold PR
    rw [up_eq, up_F (F' := fR_bad) (by decide), up_F (F' := fM_at) (by decide), up_eq, up_F (F' := fM_isBad) (by decide), up_F (F' := fM_isBad) (by decide), h0 fM_isBad (by decide)]
    exact ⟨by omega, Or.inl ⟨hb, hτ.1, by omega, by omega, by omega⟩⟩
  · unfold JR
    rw [up_F (F' := fR_runs) (by decide), up_F (F' := fM_runs) (by decide), up_F (F' := fM_runs) (by decide), h0 fM_runs (by decide), up_eq]
    exact ⟨hJ.1, hJ.2.1, by omega, fun _ => ⟨by omega, fun _ => by omega⟩⟩
  · exact ENV_c hE (up_F (by decide) ..) (by rw [up_F (by decide), up_F (by decide), h0 _ (by decide)])
  · intro F hF k hk
    rw [up_j hk]
    have n1 : F ≠ fM_at := fun z => by subst z; exact absurd hF (by decide)
    rw [up_F n1]
  · intro F hF k hk
    have n1 : F ≠ fM_at := fun z => by subst z; exact absurd hF (by decide)
    have n2 : F ≠ fM_pWhat := fun z => by subst z; exact absurd hF (by decide)
    rw [up_F n2, up_F n1]
/-- how both begin a phrase -/
theorem ph_begin {σ τ : ga_S} {f : Int} {N : Nat} {a b : Int} (H : phH σ τ f N a b) {d : Nat} (hd : 1 ≤ d) : p_ord d (ga_up σ fR_p 0 0 a) (σ fT_kinds 0 a) = some (σ fT_kinds 0 a, ga_up σ fR_p 0 0 a) ∧ c_m_look d (ph0 τ) = some (cdM (σ fT_kinds 0 a), ph0 τ) ∧ (0 ≤ a ∧ a < 5002) ∧ (0 ≤ σ fT_kinds 0 a ∧ σ fT_kinds 0 a < 64) ∧ (ph0 τ) fM_at 0 0 = f + a ∧ (ph0 τ) fM_tCount 0 0 = τ fM_tCount 0 0 := by
  obtain ⟨hE, hb, ha, hT, hbN, hτ, hJ, hj, hi⟩ := H
  have h0 := ph0_fr τ
  have hab := hT.1
  have hN5 := hE.2.2.1
  have k := hE.2.2.2.1 a ha (by omega)
  have E0 : ENV (ga_up σ fR_p 0 0 a) (ph0 τ) f N := ENV_c hE (up_F (by decide) ..) (h0 _ (by decide))
  have P0 : PR (ga_up σ fR_p 0 0 a) (ph0 τ) f N := by
    unfold PR
    rw [up_eq, up_F (F' := fR_bad) (by decide), h0 fM_at (by decide), h0 fM_isBad (by decide), hτ.2]
    exact ⟨by omega, Or.inl ⟨hb, hτ.1, ha, by omega, rfl⟩⟩
  have l := s_m_look E0 P0 hd
  rw [up_F (F' := fR_bad) (by decide), if_pos hb, up_eq, up_F (F' := fT_kinds) (by decide)] at l
  exact ⟨s_p_ord hd _ _ k.1, l, by omega, ⟨k.1, k.2.1⟩, by rw [h0 _ (by decide)]; exact hτ.2, by rw [h0 _ (by decide)]⟩
/-- what a phrase answers -/
def phA (σ τ : ga_S) (f : Int) (N : Nat) (a b : Int) (d : Nat) : Prop := ∃ σ' τ', c_r_phraseShape (d + 1) σ a b = some (0, σ') ∧ c_m_phrase (d + 1) τ = some (0, τ') ∧ phX σ σ' τ τ' f N a b
theorem ph_say {σ τ : ga_S} {f : Int} {N : Nat} {a b : Int} (H : phH σ τ f N a b) {d : Nat} (hd : 8 ≤ d) (hc : σ fT_kinds 0 a = 52) : phA σ τ f N a b d := by
  obtain ⟨B1, B2, B3, B4, B5, B6⟩ := ph_begin H (d := d) (by omega)
  obtain ⟨K1, K2, K3, K4, K5, K6, K7⟩ := ph_key H hc (by omega) 0
  obtain ⟨hE, hb, ha, hT, hbN, hτ, hJ, hj, hi⟩ := H
  have hf := hE.1
  have hN := hE.2.1
  obtain ⟨σ1, eσ1⟩ : ∃ x, x = ga_up σ fR_p 0 0 (a + 1) := ⟨_, rfl⟩
  obtain ⟨τ1, eτ1⟩ : ∃ x, x = ga_up (ga_up (ph0 τ) fM_at 0 0 (f + a + 1)) fM_pWhat 0 (τ fM_pCount 0 0) 0 := ⟨_, rfl⟩
  rw [← eσ1, ← eτ1] at K1 K2 K3
  rw [← eτ1] at K5 K6 K7
  have Q1 : uQ σ1 σ1 τ1 (ga_up τ1 fM_tWhat 0 (τ fM_tCount 0 0) (f + a + 1)) f N (τ fM_tCount 0 0) := U_up K1 K2 (LC := []) (LM := [fM_tWhat]) (fr_refl _ _) (fr_u (by decide)) (by decide) (by decide) tKeep_u
  obtain ⟨v, σ2, τ2, e1, e2, Q2, e4, e5, e6⟩ := U_take (uQ_E Q1 K3) Q1.1 Q1.2.1 (d := d) (by omega) (c := 2) (m := 5) (by decide) (by omega) (by omega) (by omega) (τ fM_tCount 0 0)
  have p1 : σ1 fR_p 0 0 = a + 1 := by rw [eσ1, up_eq]
  have k1 : σ1 fT_kinds = σ fT_kinds := by rw [eσ1, up_F (by decide)]
  have k2 : σ2 fT_kinds = σ fT_kinds := (e4 _ (by decide)).trans k1
  have j2 : τ2 fM_tCount 0 0 = τ fM_tCount 0 0 := by rw [e5 _ (by decide), up_F (by decide), K5 _ (by decide), B6]
  refine ph_wrap hE hb hbN hτ hJ.1 hi hj (d := d) (by omega) (σ1 := σ1) (σ2 := σ2) (τ1 := τ1) (τ2 := τ2) (τ3 := ga_up τ2 fM_tCount 0 0 (τ fM_tCount 0 0 + 1)) (by rw [eσ1]; exact fr_u (by decide)) K5 K6 K7 (uQ_trans Q1 Q2) (fr_u (by decide)) (Or.inl (up_eq ..)) (fun z => ?_) (fun z zb => ?_) ?_ ?_
  · have q := e6 z
    rw [k2, q.2.2, p1]
    rw [k1, p1] at q
    exact toT_step K4 (by rw [q.2.1]; unfold endT; omega)
  · have q := e6 z
    rw [k1, p1] at q
    refine ⟨?_, ?_, Or.inl ⟨by rw [k2]; exact hc, ?_, ?_, by rw [k2]; exact q.2.1, by omega⟩⟩
    · rw [e5 _ (by decide), up_F (by decide), K5 _ (by decide)]; unfold ph0; rw [up_F (by decide), up_eq]
    · rw [e5 _ (by decide), up_F (by decide), K5 _ (by decide)]; unfold ph0; rw [up_F (by decide), up_F (by decide), up_eq]; exact hτ.2
    · rw [e5 _ (by decide), up_F (by decide), eτ1, up_eq]
    · rw [e5 _ (by decide), up_eq]; omega
  · rw [e_r_phraseShape, if_pos hb, ck_ok _ B3, nn_ok _ B4.1, B1]
    simp only [Option.bind_some]
    rw [if_pos hc, up_eq, up_up, w32_ok (by omega), ← eσ1, e1]
    rfl
  · rw [e_m_phrase, ck_ok _ hi, ck_ok _ hi, ck_ok _ hj]
    show ((c_m_look d (ph0 τ)).bind _) = _
    rw [B2]
    simp only [Option.bind_some]
    rw [if_pos (by rw [hc]; decide), ck_ok _ hi, B6, ck_ok _ hj, B5, w32_ok (by omega), ← eτ1, e2]
    simp only [Option.bind_some]
    rw [j2, w32_ok (by omega)]
theorem ph_stop {σ τ : ga_S} {f : Int} {N : Nat} {a b : Int} (H : phH σ τ f N a b) {d : Nat} (hd : 8 ≤ d) (hc : σ fT_kinds 0 a = 57) : phA σ τ f N a b d := by
  obtain ⟨B1, B2, B3, B4, B5, B6⟩ := ph_begin H (d := d) (by omega)
  obtain ⟨K1, K2, K3, K4, K5, K6, K7⟩ := ph_key H hc (by omega) 6
  obtain ⟨hE, hb, ha, hT, hbN, hτ, hJ, hj, hi⟩ := H
  have hf := hE.1
  have hN := hE.2.1
  obtain ⟨σ1, eσ1⟩ : ∃ x, x = ga_up σ fR_p 0 0 (a + 1) := ⟨_, rfl⟩
  obtain ⟨τ1, eτ1⟩ : ∃ x, x = ga_up (ga_up (ph0 τ) fM_at 0 0 (f + a + 1)) fM_pWhat 0 (τ fM_pCount 0 0) 6 := ⟨_, rfl⟩
  rw [← eσ1, ← eτ1] at K1 K2 K3
  rw [← eτ1] at K5 K6 K7
  have p1 : σ1 fR_p 0 0 = a + 1 := by rw [eσ1, up_eq]
  have k1 : σ1 fT_kinds = σ fT_kinds := by rw [eσ1, up_F (by decide)]
  refine ph_wrap hE hb hbN hτ hJ.1 hi hj (d := d) (by omega) (σ1 := σ1) (σ2 := σ1) (τ1 := τ1) (τ2 := τ1) (τ3 := ga_up τ1 fM_tCount 0 0 (τ fM_tCount 0 0 + 1)) (by rw [eσ1]; exact fr_u (by decide)) K5 K6 K7 (tsQ_u (tsQ_refl K1 K2)) (fr_u (by decide)) (Or.inl (up_eq ..)) (fun z => ?_) (fun z zb => ?_) ?_ ?_
  · rw [k1, p1]; exact K4
  · refine ⟨?_, ?_, Or.inr (Or.inr (Or.inr (Or.inr (Or.inl ⟨by rw [k1]; exact hc, ?_⟩))))⟩
    · rw [K5 _ (by decide)]; unfold ph0; rw [up_F (by decide), up_eq]
    · rw [K5 _ (by decide)]; unfold ph0; rw [up_F (by decide), up_F (by decide), up_eq]; exact hτ.2
    · rw [eτ1, up_eq]
  · rw [e_r_phraseShape, if_pos hb, ck_ok _ B3, nn_ok _ B4.1, B1]
    simp only [Option.bind_some]
    rw [if_neg (by omega), if_neg (by omega), if_neg (by omega), if_neg (by omega), if_neg (by omega), if_pos hc, up_eq, up_up, w32_ok (by omega), ← eσ1]
  · rw [e_m_phrase, ck_ok _ hi, ck_ok _ hi, ck_ok _ hj]
    show ((c_m_look d (ph0 τ)).bind _) = _
    rw [B2]
    simp only [Option.bind_some]
    rw [hc, if_neg (by decide), if_neg (by decide), if_neg (by decide), if_neg (by decide), if_neg (by decide), if_pos (by decide), ck_ok _ hi, B5, w32_ok (x := f + a + 1) (by omega), ← eτ1, B6, w32_ok (by omega)]
theorem ph_wrong {σ τ : ga_S} {f : Int} {N : Nat} {a b : Int} (H : phH σ τ f N a b) {d : Nat} (hd : 8 ≤ d) (hc : ¬ (52 ≤ σ fT_kinds 0 a ∧ σ fT_kinds 0 a ≤ 58)) : phA σ τ f N a b d := by
  obtain ⟨B1, B2, B3, B4, B5, B6⟩ := ph_begin H (d := d) (by omega)
  obtain ⟨hE, hb, ha, hT, hbN, hτ, hJ, hj, hi⟩ := H
  have hf := hE.1
  have hN := hE.2.1
  have hN5 := hE.2.2.1
  have hab := hT.1
  have h0 := ph0_fr τ
  have P0 : PR (ga_up σ fR_p 0 0 a) (ph0 τ) f N := by
    unfold PR
    rw [up_eq, up_F (F' := fR_bad) (by decide), h0 fM_at (by decide), h0 fM_isBad (by decide), hτ.2]
    exact ⟨by omega, Or.inl ⟨hb, hτ.1, ha, by omega, rfl⟩⟩
  have J0 : JR (ga_up σ fR_p 0 0 a) (ph0 τ) := by
    unfold JR
    rw [up_F (F' := fR_runs) (by decide), h0 fM_runs (by decide), up_eq, up_F (F' := fT_kinds) (by decide)]
    exact ⟨hJ.1, hJ.2.1, by omega, fun _ => hJ.2.2⟩
  obtain ⟨σ2, τ2, g1, g2, g3, g4, g5, g6⟩ := P_wrong P0 (d := d) (by omega)
  have Q : uQ (ga_up σ fR_p 0 0 a) σ2 (ph0 τ) τ2 f N (τ fM_tCount 0 0) := PR_uQ g3 J0 g5 g6 (fun z => absurd z g4)
  have n1 : ∀ m c : Int, m = cdM c → 52 ≤ c ∧ c ≤ 58 → ¬ cdM (σ fT_kinds 0 a) = m := by
    intro m c hm h1 z
    rw [hm] at z
    have := (cdM_inj (a := σ fT_kinds 0 a) (b := c) B4 (by omega)).mp z
    omega
  refine ph_wrap hE hb hbN hτ hJ.1 hi hj (d := d) (by omega) (σ1 := ga_up σ fR_p 0 0 a) (σ2 := σ2) (τ1 := ph0 τ) (τ2 := τ2) (τ3 := τ2) (fr_u (by decide)) (fr_refl _ _) (fun _ _ _ _ => rfl) (tKeep_refl _ _) Q (fr_refl _ _) (Or.inr ⟨g4, by rw [g6 _ (by decide), B6]⟩) (fun z => absurd z g4) (fun z => absurd z g4) ?_ ?_
  · rw [e_r_phraseShape, if_pos hb, ck_ok _ B3, nn_ok _ B4.1, B1]
    simp only [Option.bind_some]
    rw [if_neg (by omega), if_neg (by omega), if_neg (by omega), if_neg (by omega), if_neg (by omega), if_neg (by omega), if_neg (by omega), g1]
    rfl
  · rw [e_m_phrase, ck_ok _ hi, ck_ok _ hi, ck_ok _ hj]
    show ((c_m_look d (ph0 τ)).bind _) = _
    rw [B2]
    simp only [Option.bind_some]
    rw [if_neg (n1 143 52 (by decide) (by omega)), if_neg (n1 144 53 (by decide) (by omega)), if_neg (n1 145 54 (by decide) (by omega)), if_neg (n1 146 55 (by decide) (by omega)), if_neg (n1 147 56 (by decide) (by omega)), if_neg (n1 148 57 (by decide) (by omega)), if_neg (n1 149 58 (by decide) (by omega)), B5, up_up, w32_ok (x := f + a + 1) (by omega), w32_ok (by omega), show ga_up (ph0 τ) fM_at 0 0 (f + a + 1 - 1) = ph0 τ from up_id (by rw [B5]; omega), g2]
    rfl

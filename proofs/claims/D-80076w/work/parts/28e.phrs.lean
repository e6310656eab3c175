/-! all phrases of a rule -/
section
variable {σ0 τ0 : ga_S} {f : Int} {N : Nat}
theorem pe_lt {K : Int → Int} {τ σ3 : ga_S} {g a b i j : Int} (T : toT K 1 a b) (P : pRw σ3 τ g a b i j) (kk : σ3 fT_kinds 0 = K) : a < b := by
  have k0 : 52 ≤ K a ∧ K a ≤ 58 := by
    obtain ⟨_, _, r3⟩ := P
    rw [kk] at r3
    rcases r3 with h | h | h | h | h | h
    · omega
    · omega
    · omega
    · omega
    · omega
    · omega
  have h1 := T.1
  have h2 := T.2.1
  refine Classical.byContradiction fun z => ?_
  have e : a = b := by omega
  rw [← e] at h2
  unfold endT at h2
  omega
/-- ahead of phrase i -/
def PSq (σ0 τ0 : ga_S) (ik nk ik' nk' : Int) (σ τ : ga_S) (c i : Int) : Prop :=
  KC σ0 σ ∧ KM τ0 τ ∧ FT σ c ∧ GT τ c ∧ σ fR_runs 0 0 = σ0 fR_runs 0 0 ∧ rKeepC σ0 σ ∧ (σ fR_itKind 0 0 = ik ∧ σ fR_nounKind 0 0 = nk) ∧ (τ fM_itKind 0 0 = ik' ∧ τ fM_nounKind 0 0 = nk') ∧ σ fR_rule 0 0 = σ0 fR_draft 0 0 ∧ τ fM_isDry 0 0 = 0 ∧
  ((ik = ik' ∧ nk = nk') ∨ ∀ k, 0 ≤ k → k < σ0 fR_phrases 0 0 → c ≤ cd σ0 (σ0 fR_phraseFrom 0 k) 0) ∧
  (c = 1000000 → (σ0 fR_tests 0 0 ≤ 6 ∧ ∀ k, 0 ≤ k → k < σ0 fR_tests 0 0 → stT σ0 ik nk false σ τ (14 * σ0 fR_draft 0 0 + k) (τ0 fM_tests 0 0 + k)) ∧ i ≤ 8 ∧ ∀ k, 0 ≤ k → k < i → stP σ0 ik nk σ τ (14 * σ0 fR_draft 0 0 + k + 6) (τ0 fM_tests 0 0 + σ0 fR_tests 0 0 + k) (τ0 fM_phrases 0 0 + k))
theorem ps_step (E : E0 σ0 τ0 f N) (I : IN σ0) (hk : rKeys τ0) (eS : τ0 fM_story 0 = σ0 fT_bytes 0) (hm : τ0 fM_runs 0 0 ≤ 2600) (hd0 : 0 ≤ σ0 fR_draft 0 0) (hq : 0 ≤ τ0 fM_tests 0 0 ∧ τ0 fM_tests 0 0 ≤ 700) (hx : 0 ≤ τ0 fM_phrases 0 0 ∧ τ0 fM_phrases 0 0 ≤ 300) (hT : 0 ≤ σ0 fR_tests 0 0) (S : phR σ0 τ0 f N) {ik nk ik' nk' : Int} (kI : kO σ0 ik) (kN : kO σ0 nk) (kI' : kO σ0 ik') (kN' : kO σ0 nk') {σ τ : ga_S} {c i : Int} (H : PSq σ0 τ0 ik nk ik' nk' σ τ c i) (h0 : 0 ≤ i) (hi : i < σ0 fR_phrases 0 0) (v : Int) {d e : Nat} (hd : 10 ≤ d) (he : 8 ≤ e) : ∃ σ' τ' c', r_checkRule_110 d σ i = r_checkRule_110 d σ' (i + 1) ∧ m_ruleMeant_58 e τ v (τ0 fM_tests 0 0 + σ0 fR_tests 0 0) i = m_ruleMeant_58 e τ' v (τ0 fM_tests 0 0 + σ0 fR_tests 0 0) (i + 1) ∧ PSq σ0 τ0 ik nk ik' nk' σ' τ' c' (i + 1) ∧ fr phcL σ σ' ∧ fr phmL τ τ' ∧ qKp (τ0 fM_tests 0 0 + σ0 fR_tests 0 0 + i) τ τ' ∧ xKp (τ0 fM_phrases 0 0 + i) τ τ' ∧ c' ≤ c := by
  obtain ⟨K, M, hF, hG, hR, hK, ⟨i1, i2⟩, ⟨j1, j2⟩, hr, hY, hA, hS⟩ := H
  have T := S.2.2 i h0 hi
  obtain ⟨⟨ha, hTT, hb, ⟨hj0, hj1⟩, hp0, hp1⟩, T2, _⟩ := id T
  have le := FT_le hF
  obtain ⟨a, ea⟩ : ∃ x, x = σ0 fR_phraseFrom 0 i := ⟨_, rfl⟩
  obtain ⟨b, eb⟩ : ∃ x, x = σ0 fR_phraseTo 0 i := ⟨_, rfl⟩
  have hab := hTT.1
  rw [← ea, ← eb] at T T2 hTT
  rw [← ea] at ha hab
  rw [← eb] at hb hab
  have ga := cd_r E.2.1 (t := a) (r := 0) (by omega) (by omega)
  have tn : τ fM_pCount 0 0 = σ0 fR_phrases 0 0 := by rw [M _ (by decide)]; exact S.2.1
  have tx : τ fM_phrases 0 0 = τ0 fM_phrases 0 0 := by rw [M _ (by decide)]
  have tf : τ fM_pFirst = τ0 fM_pFirst := M _ (by decide)
  have cp : σ fR_phrases 0 0 = σ0 fR_phrases 0 0 := by rw [K.1 _ (by decide)]
  have cf : σ fR_phraseFrom = σ0 fR_phraseFrom := K.1 _ (by decide)
  have ct : σ fR_phraseTo = σ0 fR_phraseTo := K.1 _ (by decide)
  -- the model, once the code of the component's phrase is known
  have mod : ∀ (σ3 : ga_S), pRw σ3 τ0 f a b i (σ0 fR_tests 0 0 + i) → σ3 fT_kinds 0 = σ0 fT_kinds 0 → ∃ τ', m_ruleMeant_58 e τ v (τ0 fM_tests 0 0 + σ0 fR_tests 0 0) i = m_ruleMeant_58 e τ' v (τ0 fM_tests 0 0 + σ0 fR_tests 0 0) (i + 1) ∧ fr phmL τ τ' ∧ KM τ0 τ' ∧ qKp (τ0 fM_tests 0 0 + σ0 fR_tests 0 0 + i) τ τ' ∧ xKp (τ0 fM_phrases 0 0 + i) τ τ' ∧ τ' fM_qPhrase 0 (τ0 fM_phrases 0 0 + i) = phW (σ0 fT_kinds 0 a) ∧ τ' fM_qTest 0 (τ0 fM_phrases 0 0 + i) = τ0 fM_tests 0 0 + σ0 fR_tests 0 0 + i ∧ τ' fM_isDry 0 0 = 0 ∧ GT τ' (min (min c (if i < 8 then 1000000 else cd σ0 a 0)) (phCd σ0 ik' nk' σ3 a b)) ∧ phRoM σ0 ik' nk' σ3 a b (τ0 fM_tests 0 0 + σ0 fR_tests 0 0 + i) τ' := by
    intro σ3 R kk
    have lt := pe_lt hTT R kk
    obtain ⟨τ1, g1, g2, g3, g4⟩ := m_need E M hG (t := a) (t' := f + a) (r := 0) (why := 9) (g := if i < 8 then 1 else 0) (by omega) rfl (by omega) (by decide) (d := e) (by omega)
    have g4' : GT τ1 (min c (if i < 8 then 1000000 else cd σ0 a 0)) := by
      by_cases z : i < 8
      · rw [if_pos z, if_neg (by decide)] at g4
        rw [if_pos z]; exact g4
      · rw [if_neg z, if_pos rfl] at g4
        rw [if_neg z]; exact g4
    obtain ⟨τ2, x1, x2, x3, x4, x5, x6, x7, x8, x9, x10⟩ := m_phraseMeant E I hk eS g3 g4' (q := τ0 fM_tests 0 0 + σ0 fR_tests 0 0 + i) (x := τ0 fM_phrases 0 0 + i) ha lt hb R kk (by rw [g2 _ (by decide)]; exact j1) (by rw [g2 _ (by decide)]; exact j2) kI' kN' hm ⟨hj0, hj1⟩ ⟨hp0, hp1⟩ (by omega) (by omega) (by rw [g2 _ (by decide)]; exact hY) (d := e) he
    refine ⟨τ2, ?_, fr_trans (fr_sub g2 (by decide)) x2, x3, qKp_t (qKp_f g2 (by decide)) x4, xKp_t (xKp_f g2 (by decide)) x5, x6, x7, x8, x9, x10⟩
    rw [e_m_ruleMeant_58, tn, if_pos hi, if_app (m_ruleMeant_80 e τ v (τ0 fM_tests 0 0 + σ0 fR_tests 0 0) i), e_m_ruleMeant_80, ck_ok _ ⟨hp0, hp1⟩, tf, R.2.1, g1]
    simp only [Option.bind_some]
    rw [g2 fM_phrases (by decide), tx, w32_ok (by omega), w32_ok (by omega), x1]
    simp only [Option.bind_some]
    rw [w32_ok (by omega)]
  by_cases c6 : i < 8
  · have D : inD σ0 (14 * σ0 fR_draft 0 0 + i + 6) := Or.inr (by omega)
    obtain ⟨σ3, σ1, a1, a2, a3, a4, a5, a6, a7, a8, a9, a10⟩ := k_phrase E I K hF (s := 14 * σ0 fR_draft 0 0 + i + 6) T hR i1 i2 kI kN (by omega) D (d := d) hd
    have lt := pe_lt hTT a2 a3
    obtain ⟨τ1, b1, b2, b3, b4, b5, b6, b7, b8, b9, b10⟩ := mod σ3 a2 a3
    rw [if_pos c6, Int.min_eq_left le] at b9
    have gA := phCd_ge (ik := ik) (nk := nk) E a2 a3 ha lt hb
    have gB := phCd_ge (ik := ik') (nk := nk') E a2 a3 ha lt hb
    have same : min c (phCd σ0 ik' nk' σ3 a b) = min c (phCd σ0 ik nk σ3 a b) := by
      rcases hA with hA | hA
      · rw [hA.1, hA.2]
      · have := hA i h0 hi
        rw [← ea] at this
        omega
    rw [same] at b9
    refine ⟨σ1, τ1, _, ?_, b1, ⟨a5, b3, a9, b9, a7, rKeepC_t hK a8 hR, ⟨by rw [a4 _ (by decide)]; exact i1, by rw [a4 _ (by decide)]; exact i2⟩, ⟨by rw [b2 _ (by decide)]; exact j1, by rw [b2 _ (by decide)]; exact j2⟩, by rw [a4 _ (by decide)]; exact hr, b8, ?_, fun z => ?_⟩, a4, b2, b4, b5, by omega⟩
    · rw [e_r_checkRule_110, cp, if_pos hi, if_pos c6, hr, nn_ok _ hd0, nn_ok _ hd0, ck_ok _ (by omega), ck_ok _ (by omega), ck_ok _ (by omega), cf, ct, ← ea, ← eb, a1]
      simp only [Option.bind_some]
      rw [e_r_checkRule_164, w32_ok (by omega)]
    · rcases hA with hA | hA
      · exact Or.inl hA
      · exact Or.inr (fun k x y => by have := hA k x y; omega)
    · have zc : c = 1000000 := by omega
      have ze : 1000000 ≤ phCd σ0 ik nk σ3 a b := by omega
      obtain ⟨⟨s1, s2⟩, s3, s4⟩ := hS zc
      refine ⟨⟨s1, fun k k0 k1 => stT_keep (s2 k k0 k1) a6 b4 (by omega) (by omega)⟩, by omega, fun k k0 k1 => ?_⟩
      by_cases ki : k = i
      · have ag : ik = ik' ∧ nk = nk' := by
          rcases hA with hA | hA
          · exact hA
          · have := hA i h0 hi
            rw [← ea] at this
            omega
        rw [ki]
        rw [← ag.1, ← ag.2] at b10
        exact ph_stP E a2 a3 ha lt hb ze a10 b10 b6 b7
      · exact stP_keep (s4 k k0 (by omega)) a6 b4 b5 (by omega) (by omega) (by omega)
  · -- too many
    obtain ⟨σ1, e1⟩ : ∃ x, x = ga_up σ fR_bad 0 0 (-1) := ⟨_, rfl⟩
    have f1 : fr [fR_bad] σ σ1 := by rw [e1]; exact fr_u (by decide)
    have K1 := KC_f K f1 (by decide)
    obtain ⟨σ3, _, x2, _, _, _, x6⟩ := T2 σ1 (K1.2.1 _ (by decide)) (by rw [e1, up_eq]) (by rw [f1 _ (by decide)]; exact hR) 9 (by omega)
    have K3 := KC_f K1 x2 (by decide)
    have kk3 : σ3 fT_kinds 0 = σ0 fT_kinds 0 := K3.2.1 _ (by decide)
    have lt := pe_lt hTT x6 kk3
    obtain ⟨τ1, b1, b2, b3, b4, b5, b6, b7, b8, b9, b10⟩ := mod σ3 x6 kk3
    have gB := phCd_ge (ik := ik') (nk := nk') E x6 kk3 ha lt hb
    obtain ⟨σ2, a1, a2, a3⟩ := k_note E.2.1 E.1.2.2.1 K hF (t := a) (r := 0) (why := 9) (by omega) (by omega) (by decide) (d := d) (by omega)
    rw [if_neg c6, show min (min c (cd σ0 a 0)) (phCd σ0 ik' nk' σ3 a b) = min c (cd σ0 a 0) by omega] at b9
    refine ⟨σ2, τ1, _, ?_, b1, ⟨KC_f K a2 (by decide), b3, a3, b9, by rw [a2 _ (by decide)]; exact hR, rKeepC_t hK (rKeepC_eq (a2 _ (by decide)) (a2 _ (by decide))) hR, ⟨by rw [a2 _ (by decide)]; exact i1, by rw [a2 _ (by decide)]; exact i2⟩, ⟨by rw [b2 _ (by decide)]; exact j1, by rw [b2 _ (by decide)]; exact j2⟩, by rw [a2 _ (by decide)]; exact hr, b8, ?_, fun z => by omega⟩, fr_sub a2 (by decide), b2, b4, b5, by omega⟩
    · rw [e_r_checkRule_110, cp, if_pos hi, if_neg c6, ck_ok _ (by omega), cf, ← ea, a1]
      simp only [Option.bind_some]
      rw [e_r_checkRule_164, w32_ok (by omega)]
    · rcases hA with hA | hA
      · exact Or.inl hA
      · exact Or.inr (fun k x y => by have := hA k x y; omega)
theorem ps_all (E : E0 σ0 τ0 f N) (I : IN σ0) (hk : rKeys τ0) (eS : τ0 fM_story 0 = σ0 fT_bytes 0) (hm : τ0 fM_runs 0 0 ≤ 2600) (hd0 : 0 ≤ σ0 fR_draft 0 0) (hq : 0 ≤ τ0 fM_tests 0 0 ∧ τ0 fM_tests 0 0 ≤ 700) (hx : 0 ≤ τ0 fM_phrases 0 0 ∧ τ0 fM_phrases 0 0 ≤ 300) (hT : 0 ≤ σ0 fR_tests 0 0) (S : phR σ0 τ0 f N) {ik nk ik' nk' : Int} (kI : kO σ0 ik) (kN : kO σ0 nk) (kI' : kO σ0 ik') (kN' : kO σ0 nk') (v : Int) {d e : Nat} (hd : 10 ≤ d) (he : 8 ≤ e) : ∀ i, 0 ≤ i → i ≤ σ0 fR_phrases 0 0 → ∀ (σ τ : ga_S) (c : Int), PSq σ0 τ0 ik nk ik' nk' σ τ c i → ∃ σ' τ' c', r_checkRule_110 d σ i = r_checkRule_110 d σ' (σ0 fR_phrases 0 0) ∧ m_ruleMeant_58 e τ v (τ0 fM_tests 0 0 + σ0 fR_tests 0 0) i = m_ruleMeant_58 e τ' v (τ0 fM_tests 0 0 + σ0 fR_tests 0 0) (σ0 fR_phrases 0 0) ∧ PSq σ0 τ0 ik nk ik' nk' σ' τ' c' (σ0 fR_phrases 0 0) ∧ fr phcL σ σ' ∧ fr phmL τ τ' ∧ (∀ F, F ∈ qL → ∀ k, k < τ0 fM_tests 0 0 + σ0 fR_tests 0 0 → τ' F 0 k = τ F 0 k) ∧ (∀ F, F ∈ xL → ∀ k, k < τ0 fM_phrases 0 0 → τ' F 0 k = τ F 0 k) ∧ c' ≤ c := by
  refine rg_ind (n := σ0 fR_phrases 0 0) (fun i hi h0 hle σ τ c H => ?_) (fun i hi ih h0 hle σ τ c H => ?_)
  · have e : i = σ0 fR_phrases 0 0 := by omega
    rw [e] at H ⊢
    exact ⟨σ, τ, c, rfl, rfl, H, fr_refl _ _, fr_refl _ _, fun _ _ _ _ => rfl, fun _ _ _ _ => rfl, Int.le_refl _⟩
  · obtain ⟨σ1, τ1, c1, a1, a2, a3, a4, a5, a6, a7, a8⟩ := ps_step E I hk eS hm hd0 hq hx hT S kI kN kI' kN' H h0 hi v hd he
    obtain ⟨σ2, τ2, c2, b1, b2, b3, b4, b5, b6, b7, b8⟩ := ih (by omega) (by omega) σ1 τ1 c1 a3
    exact ⟨σ2, τ2, c2, by rw [a1, b1], by rw [a2, b2], b3, fr_trans a4 b4, fr_trans a5 b5, fun F hF k hk => (b6 F hF k hk).trans (a6 F hF k (by omega)), fun F hF k hk => (b7 F hF k hk).trans (a7 F hF k (by omega)), by omega⟩
end

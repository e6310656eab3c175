/-! a turn, on both sides: the phrases of a rule -/
section
variable {σ τ σ1 τ1 : ga_S}
def PHS (σ τ : ga_S) (nk r l P Q Y : Int) : Prop := (σ fQ_phrases r 0 = P ∧ τ fM_rulePhrases 0 l = P ∧ τ fM_rulePhrase 0 l = Y) ∧ ((0 ≤ Q ∧ Q + P ≤ 2400) ∧ (0 ≤ Y ∧ Y + P ≤ 2000) ∧ (0 ≤ P ∧ P ≤ 8) ∧ 0 ≤ r ∧ 0 ≤ l ∧ l < 24) ∧ ∀ k, 0 ≤ k → k < P → stP σ (-1) nk σ τ (14 * r + k + 6) (Q + k) (Y + k)
theorem PHS_f {nk r l P Q Y : Int} (h : PHS σ τ nk r l P Q Y) (f1 : fr tuC σ σ1) (f2 : fr tuM τ τ1) : PHS σ1 τ1 nk r l P Q Y := by
  obtain ⟨h1, h2, h3⟩ := h
  refine ⟨by rw [f1 _ (by decide), f2 fM_rulePhrases (by decide), f2 fM_rulePhrase (by decide)]; exact h1, h2, fun k k0 k1 => ?_⟩
  exact stP_e (fr_mem f1 (by decide)) (stP_fr (h3 k k0 k1) f1 (by decide) f2 (by decide) (by decide))
theorem IVk_f {nk noun : Int} (h : IVk σ nk noun) (f1 : fr tuC σ σ1) : IVk σ1 nk noun := by
  unfold IVk at h ⊢
  rw [f1 fW_objects (by decide), f1 fW_parents (by decide), f1 fW_kindOf (by decide)]
  exact h
theorem kO_f {nk : Int} (h : kO σ nk) (f1 : fr tuC σ σ1) : kO σ1 nk := by
  unfold kO at h ⊢
  rw [f1 fW_kinds (by decide)]
  exact h
theorem nOk_f {a noun : Int} (h : nOk σ a noun) (f1 : fr tuC σ σ1) : nOk σ1 a noun := by
  unfold nOk at h ⊢
  rw [f1 fW_actionKinds (by decide), f1 fW_objects (by decide), f1 fW_parents (by decide), f1 fW_kindOf (by decide)]
  exact h
/-- one phrase of the model's rule -/
theorem PM_run {τ0 τ' : ga_S} {l noun w k P q x : Int} (hl : 0 ≤ l ∧ l < 24) (hP : τ fM_rulePhrases 0 l = P) (hk : k < P) (en : τ fM_isEnded 0 0 = 0) (dn : τ fM_done 0 0 ≠ 300) (db : 0 ≤ τ fM_done 0 0 ∧ τ fM_done 0 0 ≤ 300) (e0 : τ0 = ga_up τ fM_done 0 0 (τ fM_done 0 0 + 1)) (ex : τ fM_rulePhrase 0 l + k = x) (hx : 0 ≤ x ∧ x < 2000) (eq : τ fM_qTest 0 x = q) (hq : 0 ≤ q ∧ q < 2400) {d : Nat} (M : PM d τ0 noun w q x τ') : m_runs_3 d τ l noun w k = m_runs_238 d τ' l noun w k := by
  have f0 : fr [fM_done] τ τ0 := by rw [e0]; exact fr_u (by decide)
  unfold PM at M
  rw [f0 fM_qPhrase (by decide), f0 fM_qWhat (by decide), f0 fM_qLong (by decide), f0 fM_qThing (by decide), f0 fM_qOther (by decide)] at M
  rw [e_m_runs_3, ck_ok _ hl, hP, if_pos hk, if_pos en, if_neg dn, ck_ok _ hl, ex, w32_ok (x := x) (by omega), ck_ok _ hx, ck_ok _ hl, ck_ok _ hx, eq, w32_ok (x := τ fM_done 0 0 + 1) (by omega), ← e0]
  rcases M with ⟨m1, b, τ1, m2, m3⟩ | ⟨m1, m2⟩ | ⟨m1, a, b, m2, m3, m4⟩ | ⟨m1, m2⟩ | ⟨m1, m2⟩ | ⟨m1, m2⟩
  · rw [if_pos m1, ck_ok _ hq, ck_ok _ hq, m2, Option.bind_some]
    show ((c_m_put d τ1 10).bind fun q9 => m_runs_238 d q9.2 l noun w k) = _
    rw [m3, Option.bind_some]
  · rw [if_neg (by omega), if_pos m1, m2, Option.bind_some]
  · rw [if_neg (by omega), if_neg (by omega), if_pos m1, ck_ok _ hq, m2, Option.bind_some]
    show ga_ck q 2400 ((c_m_thingIs d τ0 (τ0 fM_qOther 0 q) (-1) noun).bind fun q5 => (c_m_moves d q5.2 a q5.1).bind fun q6 => m_runs_238 d q6.2 l noun w k) = _
    rw [ck_ok _ hq, f0 fM_qOther (by decide), m3, Option.bind_some]
    show ((c_m_moves d τ0 a b).bind fun q6 => m_runs_238 d q6.2 l noun w k) = _
    rw [m4, Option.bind_some]
  · rw [if_neg (by omega), if_neg (by omega), if_neg (by omega), if_pos m1, ck_ok _ hq, m2, Option.bind_some]
  · rw [if_neg (by omega), if_neg (by omega), if_neg (by omega), if_neg (by omega), if_pos m1, ck_ok _ hq, m2, Option.bind_some]
  · rw [if_neg (by omega), if_neg (by omega), if_neg (by omega), if_neg (by omega), if_neg (by omega), if_pos m1, m2, Option.bind_some]
theorem f69 (d : Nat) (h : σ fU_stops 0 0 = 0) : u_follow_69 d σ = some (1, σ) := by
  rw [e_u_follow_69, if_pos h, e_u_follow_81, z1_ok _ (Or.inr rfl), up_id h]
theorem fol_l {w nk noun noun' r l P Q Y : Int} (hw : 0 ≤ w ∧ w ≤ 8) (he : nk ≠ -1 → noun' = noun) (he2 : noun' = -1 ↔ nk = -1) {d d' : Nat} (hd : 11 ≤ d) (hd' : 11 ≤ d') (H : w < 8 → AJ2 d d' (w + 1)) : ∀ (m : Nat) (k : Int) (σ τ : ga_S), 0 ≤ k → k + m = P → TJ σ τ → σ fU_within 0 0 = w → PHS σ τ nk r l P Q Y → IVk σ nk noun → kO σ nk → ∃ b σ' τ', u_follow_2 (d + 2) σ r noun k = some (b2i b, σ') ∧ m_runs_3 (d' + 1) τ l noun' w k = some (b2i (!b), τ') ∧ fr tuC σ σ' ∧ fr tuM τ τ' ∧ TJ σ' τ' ∧ σ' fU_within 0 0 = w
  | 0, k, σ, τ, h0, hk, T, hw0, S, hn, kN => by
    obtain ⟨⟨s1, s2, s3⟩, ⟨_, _, _, r0, l0⟩, _⟩ := S
    refine ⟨true, σ, τ, ?_, ?_, fr_refl _ _, fr_refl _ _, T, hw0⟩
    · rw [e_u_follow_2, nn_ok _ r0, s1, if_neg (by omega), f69 _ T.2.2.2]; rfl
    · rw [e_m_runs_3, ck_ok _ l0, s2, if_neg (by omega)]; rfl
  | m + 1, k, σ, τ, h0, hk, T, hw0, S, hn, kN => by
    have SS := S
    obtain ⟨⟨s1, s2, s3⟩, ⟨hQ, hY, hP, r0, l0⟩, s4⟩ := S
    have TT := T
    obtain ⟨A, ⟨t1, t2, t3⟩, ⟨t4, t5⟩, t6⟩ := T
    have hk1 : k < P := by omega
    by_cases en : σ fU_ends 0 0 = 0
    · by_cases c300 : σ fU_phrases 0 0 = 300
      · -- enough
        obtain ⟨σ1, e1⟩ : ∃ z, z = ga_up σ fU_ends 0 0 1 := ⟨_, rfl⟩
        obtain ⟨τ1, e2⟩ : ∃ z, z = ga_up τ fM_isEnded 0 0 1 := ⟨_, rfl⟩
        have f1 : fr [fU_ends] σ σ1 := by rw [e1]; exact fr_u (by decide)
        have f2 : fr [fM_isEnded] τ τ1 := by rw [e2]; exact fr_u (by decide)
        have n1 : σ1 fU_ends 0 0 = 1 := by rw [e1, up_eq]
        have z1 : σ1 fU_stops 0 0 = 0 := by rw [f1 _ (by decide)]; exact t6
        have A1 : AP σ1 τ1 := AP_f A f1 (by decide +kernel) f2 (by decide +kernel)
        refine ⟨true, σ1, τ1, ?_, ?_, fr_sub f1 (by decide), fr_sub f2 (by decide), ⟨A1, ?_, ?_, z1⟩, by rw [f1 _ (by decide)]; exact hw0⟩
        · rw [e_u_follow_2, nn_ok _ r0, s1, if_pos hk1, if_pos t6, if_pos en, if_pos c300, ← e1, e_u_follow_63, w32_ok (by omega), e_u_follow_2, nn_ok _ r0]
          by_cases c : k + 1 < σ1 fQ_phrases r 0
          · rw [if_pos c, if_pos z1, if_neg (by rw [n1]; decide), f69 _ z1]; rfl
          · rw [if_neg c, f69 _ z1]; rfl
        · rw [e_m_runs_3, ck_ok _ l0, s2, if_pos hk1, if_pos (by rw [t4]; exact en), if_pos (by rw [t1]; exact c300), ← e2]; rfl
        · rw [f1 fU_phrases (by decide), f2 fM_done (by decide)]; exact ⟨t1, t2, t3⟩
        · rw [n1, e2, up_eq]; exact ⟨rfl, Or.inr rfl⟩
      · obtain ⟨σ1, e1⟩ : ∃ z, z = ga_up σ fU_phrases 0 0 (σ fU_phrases 0 0 + 1) := ⟨_, rfl⟩
        obtain ⟨τ1, e2⟩ : ∃ z, z = ga_up τ fM_done 0 0 (τ fM_done 0 0 + 1) := ⟨_, rfl⟩
        have f1 : fr [fU_phrases] σ σ1 := by rw [e1]; exact fr_u (by decide)
        have f2 : fr [fM_done] τ τ1 := by rw [e2]; exact fr_u (by decide)
        have F1 : fr tuC σ σ1 := fr_sub f1 (by decide)
        have F2 : fr tuM τ τ1 := fr_sub f2 (by decide)
        have A1 : AP σ1 τ1 := AP_f A f1 (by decide +kernel) f2 (by decide +kernel)
        have T1 : TJ σ1 τ1 := by
          have y1 : σ1 fU_phrases 0 0 = σ fU_phrases 0 0 + 1 := by rw [e1, up_eq]
          have y2 : τ1 fM_done 0 0 = σ fU_phrases 0 0 + 1 := by rw [e2, up_eq, t1]
          unfold TJ
          rw [f1 fU_ends (by decide), f1 fU_stops (by decide), f2 fM_isEnded (by decide), y1, y2]
          exact ⟨A1, ⟨rfl, by omega, by omega⟩, ⟨t4, t5⟩, t6⟩
        have w1 : σ1 fU_within 0 0 = w := by rw [f1 _ (by decide)]; exact hw0
        have S1 := PHS_f SS F1 F2
        have P1 := S1.2.2 k h0 hk1
        have xq : τ fM_qTest 0 (Y + k) = Q + k := (s4 k h0 hk1).1
        have rC : ∀ y, c_u_phrase (d + 2) σ1 (14 * r + k + 6) noun = some (0, y) → u_follow_2 (d + 2) σ r noun k = u_follow_2 (d + 2) y r noun (k + 1) := by
          intro y hy
          rw [e_u_follow_2, nn_ok _ r0, s1, if_pos hk1, if_pos t6, if_pos en, if_neg c300, nn_ok _ r0, nn_ok _ r0, ck_ok _ (by omega), w32_ok (by omega), ← e1, hy, Option.bind_some]
          show u_follow_63 (d + 2) y r noun k = _
          rw [e_u_follow_63, w32_ok (by omega)]
        rcases phr_J T1 w1 hw (s := 14 * r + k + 6) (q := Q + k) (x := Y + k) (by omega) (by omega) P1 (IVk_f hn F1) (kO_f kN F1) he he2 hd hd' H with ⟨b1, b2⟩ | ⟨σ2, τ2, b1, b2, b3, b4, b5, b6⟩
        · -- stop
          obtain ⟨σ3, e3⟩ : ∃ z, z = ga_up σ1 fU_stops 0 0 1 := ⟨_, rfl⟩
          rw [← e3] at b2
          have n3 : σ3 fU_stops 0 0 ≠ 0 := by rw [e3, up_eq]; decide
          have b69 : u_follow_69 (d + 2) σ3 = some (b2i false, σ1) := by
            rw [e_u_follow_69, if_neg n3, e_u_follow_81, z1_ok _ (Or.inl rfl), e3, up_up, up_id (show σ1 fU_stops 0 0 = 0 from T1.2.2.2)]; rfl
          refine ⟨false, σ1, τ1, ?_, ?_, F1, F2, T1, w1⟩
          · rw [rC σ3 b2, e_u_follow_2, nn_ok _ r0]
            by_cases c : k + 1 < σ3 fQ_phrases r 0
            · rw [if_pos c, if_neg n3, b69]
            · rw [if_neg c, b69]
          · rw [f2 fM_qPhrase (by decide)] at b1
            rw [e_m_runs_3, ck_ok _ l0, s2, if_pos hk1, if_pos (by rw [t4]; exact en), if_neg (by rw [t1]; exact c300), ck_ok _ l0, s3, w32_ok (x := Y + k) (by omega), ck_ok _ (by omega), ck_ok _ l0, ck_ok _ (by omega), if_neg (by omega), if_neg (by omega), if_neg (by omega), if_neg (by omega), if_neg (by omega), if_neg (by omega), w32_ok (by omega), ← e2]; rfl
        · obtain ⟨b, σ', τ', c1, c2, c3, c4, c5, c6⟩ := fol_l hw he he2 hd hd' H m (k + 1) σ2 τ2 (by omega) (by omega) b5 b6 (PHS_f S1 b3 b4) (IVk_f (IVk_f hn F1) b3) (kO_f (kO_f kN F1) b3)
          refine ⟨b, σ', τ', ?_, ?_, fr_trans F1 (fr_trans b3 c3), fr_trans F2 (fr_trans b4 c4), c5, c6⟩
          · rw [rC σ2 b1]; exact c1
          · rw [PM_run (τ := τ) (τ0 := τ1) (P := P) l0 s2 hk1 (by rw [t4]; exact en) (by rw [t1]; exact c300) (by rw [t1]; exact ⟨t2, t3⟩) e2 (by rw [s3]) (by omega) xq (by omega) b2, e_m_runs_238, w32_ok (by omega)]
            exact c2
    · refine ⟨true, σ, τ, ?_, ?_, fr_refl _ _, fr_refl _ _, TT, hw0⟩
      · rw [e_u_follow_2, nn_ok _ r0, s1, if_pos hk1, if_pos t6, if_neg en, f69 _ t6]; rfl
      · rw [e_m_runs_3, ck_ok _ l0, s2, if_pos hk1, if_neg (by rw [t4]; exact en)]; rfl
/-- the phrases of rule l -/
theorem fol_J (T : TJ σ τ) {w nk noun noun' l : Int} (hw0 : σ fU_within 0 0 = w) (hw : 0 ≤ w ∧ w ≤ 8) (hl : 0 ≤ l ∧ l < σ fW_rules 0 0) (kN : kO σ nk) (G : ruG σ nk σ τ (σ fW_rule 0 l) l) (hn : IVk σ nk noun) (he : nk ≠ -1 → noun' = noun) (he2 : noun' = -1 ↔ nk = -1) {d d' : Nat} (hd : 11 ≤ d) (hd' : 11 ≤ d') (H : w < 8 → AJ2 d d' (w + 1)) : ∃ b σ' τ', c_u_follow (d + 3) σ (σ fW_rule 0 l) noun = some (b2i b, σ') ∧ c_m_runs (d' + 2) τ l noun' w = some (b2i (!b), τ') ∧ fr tuC σ σ' ∧ fr tuM τ τ' ∧ TJ σ' τ' ∧ σ' fU_within 0 0 = w := by
  obtain ⟨_, ⟨g, X⟩, _⟩ := id T.1
  obtain ⟨S, ⟨r1, r2, r3⟩, ⟨q1, q2⟩, ⟨p1, p2⟩, _⟩ := X.2.2.2.2.2.1
  have a24 := X.1.2.2.1.2.1
  have rl0 := ((AP_r T.1).1.2.2 l hl.1 hl.2).1
  obtain ⟨g1, g2, ⟨g3, g4, g5⟩, ⟨g6, g7, g8⟩, ⟨g9, g10⟩, ⟨g11, g12⟩, g13, g14⟩ := G
  obtain ⟨b, σ', τ', c1, c2, c3⟩ := fol_l (w := w) (nk := nk) (noun := noun) (noun' := noun') (r := σ fW_rule 0 l) (l := l) (P := σ fQ_phrases (σ fW_rule 0 l) 0) (Q := τ fM_ruleFrom 0 l + σ fQ_tests (σ fW_rule 0 l) 0) (Y := τ fM_rulePhrase 0 l) hw he he2 hd hd' H (σ fQ_phrases (σ fW_rule 0 l) 0).toNat 0 σ τ (Int.le_refl _) (by omega) T hw0 ⟨⟨rfl, g6, rfl⟩, ⟨by omega, by omega, by omega, rl0, by omega⟩, g14⟩ hn kN
  exact ⟨b, σ', τ', by rw [e_u_follow]; exact c1, by rw [e_m_runs]; exact c2, c3⟩
end

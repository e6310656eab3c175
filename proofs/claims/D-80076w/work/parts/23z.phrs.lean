/-! phrases of a rule: the loop -/
def psC : List Nat := fR_phrases :: fR_phraseFrom :: fR_phraseTo :: tsC
def psX (σ σ' τ τ' : ga_S) (f : Int) (N : Nat) : Prop := PE σ' τ' f N ∧ JR σ' τ' ∧ fr psC σ σ' ∧ fr phM τ τ' ∧ σ' fR_runs 0 0 = σ fR_runs 0 0 ∧ rKeepC σ σ' ∧ rKeep τ τ' ∧ (∀ j, j < τ fM_tCount 0 0 → rowE τ τ' j) ∧ (∀ i, i < τ fM_pCount 0 0 → phRow τ τ' i) ∧ (∀ i, i < σ fR_phrases 0 0 → σ' fR_phraseFrom 0 i = σ fR_phraseFrom 0 i ∧ σ' fR_phraseTo 0 i = σ fR_phraseTo 0 i) ∧ (σ' fR_bad 0 0 = -1 → τ' fM_isBad 0 0 = 0 → σ' fR_phrases 0 0 = τ' fM_pCount 0 0 ∧ τ fM_pCount 0 0 < τ' fM_pCount 0 0 ∧ ∀ i, σ fR_phrases 0 0 ≤ i → i < σ' fR_phrases 0 0 → peR (σ fT_kinds 0) (σ fR_runs 0 0) τ' f N (σ' fR_phraseFrom 0 i) (σ' fR_phraseTo 0 i) i (τ fM_tCount 0 0 + (i - τ fM_pCount 0 0)) ∧ σ fR_p 0 0 ≤ σ' fR_phraseFrom 0 i)
theorem pRw_key {σ τ : ga_S} {f a b i j : Int} (h : pRw σ τ f a b i j) : 52 ≤ σ fT_kinds 0 a ∧ σ fT_kinds 0 a ≤ 58 := by
  obtain ⟨_, _, h⟩ := h
  rcases h with h | h | h | h | h | h
  · omega
  · omega
  · omega
  · rcases h.1 with g | g <;> omega
  · omega
  · omega
theorem ps_loop {f : Int} {N : Nat} {pl : Int → Int} {d : Nat} (hd : 9 ≤ d) : ∀ (n : Nat) (σ τ : ga_S), ENV σ τ f N → PR σ τ f N → JR σ τ → σ fR_bad 0 0 = -1 → (N : Int) - σ fR_p 0 0 < n → LEN pl (σ fT_kinds 0) N → 3 * τ fM_tCount 0 0 ≤ pl (σ fR_p 0 0) → σ fR_phrases 0 0 = τ fM_pCount 0 0 → 0 ≤ τ fM_pCount 0 0 → τ fM_pCount 0 0 ≤ τ fM_tCount 0 0 → ∃ σ' τ', r_ruleShape_193 d σ (σ fR_p 0 0) (σ fR_p 0 0) = some (0, σ') ∧ (c_m_phrase d τ).bind (fun q => m_phrases_4 d q.2) = some (0, τ') ∧ psX σ σ' τ τ' f N := by
  intro n
  induction n with
  | zero =>
    intro σ τ hE hP hJ hb hn
    have := PR_ok hP hb
    omega
  | succ n ih =>
    intro σ τ hE hP hJ hb hn hL h3 hte h0 hpt
    have hf := hE.1
    have hN := hE.2.1
    have hN5 := hE.2.2.1
    have ok := PR_ok hP hb
    obtain ⟨a, ea⟩ : ∃ a, a = σ fR_p 0 0 := ⟨_, rfl⟩
    rw [← ea] at ok hn h3
    obtain ⟨b, hT, hbN⟩ := toT_ex hE 1 (a := a) ok.2.1 ok.2.2.1
    have hab := hT.1
    obtain ⟨j, ej⟩ : ∃ j, j = τ fM_tCount 0 0 := ⟨_, rfl⟩
    obtain ⟨i0, ei⟩ : ∃ j, j = τ fM_pCount 0 0 := ⟨_, rfl⟩
    rw [← ej] at h3 hpt
    rw [← ei] at hte h0 hpt
    have plN := LEN_le hL ok.2.1 ok.2.2.1 (Int.le_refl _)
    have plb := LEN_le hL ok.2.1 hab hbN
    have pl5 := hL.2.1
    have hj : 0 ≤ τ fM_tCount 0 0 ∧ τ fM_tCount 0 0 < 1700 := by rw [← ej]; omega
    have hi0 : 0 ≤ τ fM_pCount 0 0 ∧ τ fM_pCount 0 0 < 1700 := by rw [← ei]; omega
    have J' := hJ.2.2.2 hb
    rw [← ea] at J'
    have H : phH σ τ f N a b := ⟨hE, hb, ok.2.1, hT, hbN, ⟨ok.1, ok.2.2.2⟩, ⟨hJ.1, hJ.2.1, J'.1, J'.2⟩, hj, hi0⟩
    obtain ⟨σ1, τ1, c1, m1, X⟩ := P_phrase H hd
    obtain ⟨X1, X2, X3, X4, X5, X6, X7, X8, X8p, X9a, X9b, X9p, X10⟩ := X
    rw [← ej] at X8 X9a X9b X10
    rw [← ei] at X8p X9p X10
    have t1 : σ1 fR_phrases 0 0 = i0 := by rw [X3 _ (by decide)]; exact hte
    have k1 : σ1 fT_kinds = σ fT_kinds := X3 _ (by decide)
    have E1 : ENV σ1 τ1 f N := ENV_c hE k1 (X4 _ (by decide))
    have rE : ∀ i, i < j → rowE τ τ1 i := fun i hi F hF => X8 F hF i (by omega)
    have pE : ∀ i, i < i0 → phRow τ τ1 i := fun i hi F hF => X8p F hF i (by omega)
    rw [← ea, s_r_rs_193 (by omega) a (by omega) hT.2.1 (b - a).toNat a ok.2.1 (by omega) hT.2.2, e_r_ruleShape_235, c1, m1]
    simp only [Option.bind_some]
    rw [t1, ck_ok _ ⟨h0, by omega⟩, ck_ok _ ⟨h0, by omega⟩, w32_ok (by omega)]
    obtain ⟨σ2, e2⟩ : ∃ x, x = ga_up (ga_up (ga_up σ1 fR_phraseFrom 0 i0 a) fR_phraseTo 0 i0 b) fR_phrases 0 0 (i0 + 1) := ⟨_, rfl⟩
    rw [← e2]
    have f2 : fr [fR_phraseFrom, fR_phraseTo, fR_phrases] σ1 σ2 := by rw [e2]; exact fr_trans (fr_trans (fr_u (by decide)) (fr_u (by decide))) (fr_u (by decide))
    have E2 : ENV σ2 τ1 f N := ENV_c E1 (f2 _ (by decide)) rfl
    have J2 : JR σ2 τ1 := JR_n X2 (n := σ1 fR_runs 0 0) X2.1 (Int.le_refl _) (by rw [f2 _ (by decide)]) (by rw [f2 _ (by decide)]) (by rw [f2 _ (by decide)]) (f2 _ (by decide))
    have T2 : σ2 fR_phrases 0 0 = i0 + 1 := by rw [e2, up_eq]
    have F2 : ∀ i, i < i0 → σ2 fR_phraseFrom 0 i = σ fR_phraseFrom 0 i ∧ σ2 fR_phraseTo 0 i = σ fR_phraseTo 0 i := fun i hi => by
      rw [e2]
      constructor
      · rw [up_F (by decide), up_F (by decide), up_j (by omega), X3 _ (by decide)]
      · rw [up_F (by decide), up_j (by omega), up_F (by decide), X3 _ (by decide)]
    have F2j : σ2 fR_phraseFrom 0 i0 = a ∧ σ2 fR_phraseTo 0 i0 = b := by
      rw [e2]
      constructor
      · rw [up_F (by decide), up_F (by decide), up_eq]
      · rw [up_F (by decide), up_eq]
    have b2 : σ2 fR_bad 0 0 = σ1 fR_bad 0 0 := by rw [f2 _ (by decide)]
    have fr2 : fr psC σ σ2 := fr_trans (fr_sub X3 (by decide)) (fr_sub f2 (by decide))
    have K2 : σ2 fT_kinds = σ fT_kinds := fr2 _ (by decide)
    have rK2 : rKeepC σ σ2 := fun i hi => by rw [f2 fR_runFrom (by decide), f2 fR_runTo (by decide)]; exact X6 i hi
    have r2 : σ2 fR_runs 0 0 = σ fR_runs 0 0 := by rw [f2 _ (by decide)]; exact X5
    have frT : fr phM τ τ1 := X4
    have out : ∀ h : ¬ (σ2 fR_bad 0 0 = -1 ∧ τ1 fM_isBad 0 0 = 0) ∨ (peR (σ fT_kinds 0) (σ fR_runs 0 0) τ1 f N a b i0 j), PE σ2 τ1 f N → psX σ σ2 τ τ1 f N := by
      intro h hPE
      refine ⟨hPE, J2, fr2, frT, r2, rK2, X7, by rw [← ej]; exact rE, by rw [← ei]; exact pE, by rw [hte]; exact F2, fun z1 z2 => ?_⟩
      rcases h with h | h
      · exact absurd ⟨z1, z2⟩ h
      · refine ⟨by rw [T2, X9p], by rw [X9p, ← ei]; omega, fun i h1 h2 => ?_⟩
        rw [hte] at h1
        rw [T2] at h2
        have ci : i = i0 := by omega
        rw [ci, F2j.1, F2j.2, ← ej, ← ei, Int.sub_self, Int.add_zero]
        exact ⟨h, by omega⟩
    by_cases cb : σ1 fR_bad 0 0 = -1
    · obtain ⟨jb, pb, row⟩ := X10 cb
      have p2 : σ2 fR_p 0 0 = b := by rw [f2 _ (by decide)]; exact pb
      rw [if_pos cb, up_id (F := fR_p) (σ := σ2) p2]
      rcases X1 with X1 | X1
      · have ok1 := PR_ok X1 cb
        have P2 : PR σ2 τ1 f N := PR_c X1 (f2 _ (by decide)) (f2 _ (by decide)) rfl rfl rfl
        have tr : peR (σ fT_kinds 0) (σ fR_runs 0 0) τ1 f N a b i0 j := by
          have := peR_of H hd m1 ok1.1
          rw [← ej, ← ei] at this
          exact this
        rw [e_r_ruleShape_287, s_r_takes E2 P2 (by omega), e_m_phrases_4, s_nx E2 P2 (by omega) (c := 5) (by decide) (by decide)]
        simp only [Option.bind_some]
        rw [b2, p2]
        by_cases ck : σ1 fR_bad 0 0 = -1 ∧ σ2 fT_kinds 0 b = 5
        · obtain ⟨P3, lt3, at3⟩ := PR_1 E2 P2 (c := 5) (by rw [b2, p2]; exact ck) (by decide) (by decide)
          rw [p2] at P3 lt3 at3
          rw [decide_eq_true ck, if_pos ck, if_neg b2i_n, w32_ok (by omega)]
          obtain ⟨σ3, e3⟩ : ∃ x, x = ga_up σ2 fR_p 0 0 (b + 1) := ⟨_, rfl⟩
          obtain ⟨τ3, g3⟩ : ∃ x, x = ga_up τ1 fM_at 0 0 (τ1 fM_at 0 0 + 1) := ⟨_, rfl⟩
          rw [← e3, ← g3] at P3 ⊢
          have f3 : fr [fR_p] σ2 σ3 := by rw [e3]; exact fr_u (by decide)
          have m3 : fr [fM_at] τ1 τ3 := by rw [g3]; exact fr_u (by decide)
          have p3 : σ3 fR_p 0 0 = b + 1 := by rw [e3, up_eq]
          have E3 : ENV σ3 τ3 f N := ENV_c E2 (f3 _ (by decide)) (m3 _ (by decide))
          have J3 : JR σ3 τ3 := JR_mv J2 (by rw [f3 _ (by decide)]) (by rw [m3 _ (by decide)]) (f3 _ (by decide)) (fun _ => ⟨by rw [b2]; exact cb, Or.inr (by rw [p2, p3]; omega)⟩)
          have b3 : σ3 fR_bad 0 0 = -1 := by rw [f3 _ (by decide), b2]; exact cb
          have K3 : σ3 fT_kinds = σ fT_kinds := (f3 _ (by decide)).trans K2
          have j3 : τ3 fM_tCount 0 0 = j + 1 := by rw [m3 _ (by decide)]; exact jb
          have i3 : τ3 fM_pCount 0 0 = i0 + 1 := by rw [m3 _ (by decide)]; exact X9p
          have key := pRw_key row
          rw [k1] at key
          have kb := hT.2.1
          unfold endT at kb
          have ne : a ≠ b := by
            intro z
            rw [z] at key
            omega
          have pl3 := LEN_3 hL (a := a) (b := b) ok.2.1 (by omega) hbN (Or.inr (Or.inr key))
          have pl4 := LEN_le hL (a := b) (b := b + 1) (by omega) (by omega) (by omega)
          have t3 : σ3 fR_phrases 0 0 = i0 + 1 := by rw [f3 _ (by decide)]; exact T2
          obtain ⟨σ', τ', c4, m4, Y⟩ := ih σ3 τ3 E3 P3 J3 b3 (by rw [p3]; omega) (by rw [K3]; exact hL) (by rw [j3, p3]; omega) (by rw [i3, t3]) (by rw [i3]; omega) (by rw [i3, j3]; omega)
          obtain ⟨Y1, Y2, Y3, Y4, Y5, Y6, Y7, Y8, Y8p, Y10, Y11⟩ := Y
          have m14 : r_ruleShape_178 d σ3 (b2i true) = some (0, σ') := by
            rw [e_r_ruleShape_178, if_neg b2i_n]; exact c4
          refine ⟨σ', τ', m14, m4, Y1, Y2, fr_trans (fr_trans fr2 (fr_sub f3 (by decide))) Y3, fr_trans (fr_trans (fr_sub X4 (by decide)) (fr_sub m3 (by decide))) Y4, ?_, ?_, ?_, ?_, ?_, ?_, ?_⟩
          · rw [Y5, f3 _ (by decide)]; exact r2
          · exact rKeepC_trans rK2 (by rw [r2]; exact Int.le_refl _) (rKeepC_trans (rKeepC_eq (f3 _ (by decide)) (f3 _ (by decide))) (by rw [f3 _ (by decide)]; exact Int.le_refl _) Y6)
          · exact rKeep_trans X7 (rKeep_trans (rKeep_eq (m3 _ (by decide)) (m3 _ (by decide)) (m3 _ (by decide))) Y7)
          · intro i hi F hF
            rw [← ej] at hi
            rw [Y8 i (by rw [j3]; omega) F hF, m3 F (mem_no (L := tA) (by decide) F hF)]
            exact rE i hi F hF
          · intro i hi F hF
            rw [← ei] at hi
            rw [Y8p i (by rw [i3]; omega) F hF, m3 F (mem_no (L := [fM_pFirst, fM_pTest, fM_pWhat]) (by decide) F hF)]
            exact pE i hi F hF
          · intro i hi
            rw [hte] at hi
            have := Y10 i (by rw [t3]; omega)
            rw [this.1, this.2, f3 _ (by decide), f3 _ (by decide)]
            exact F2 i hi
          · intro hb' hb2
            obtain ⟨Z1, Z4, Z5⟩ := Y11 hb' hb2
            refine ⟨Z1, by rw [i3] at Z4; rw [← ei]; omega, fun i h1 h2 => ?_⟩
            rw [hte] at h1
            rw [K3, t3, f3 fR_runs (by decide), r2, j3, i3, p3] at Z5
            rw [← ej, ← ei]
            by_cases ci : i = i0
            · rw [ci]
              have := Y10 i0 (by rw [t3]; omega)
              rw [this.1, this.2, f3 fR_phraseFrom (by decide), f3 fR_phraseTo (by decide), F2j.1, F2j.2, Int.sub_self, Int.add_zero]
              refine ⟨peR_keep tr (fun F hF => ?_) (fun F hF => ?_) (rKeep_trans (rKeep_eq (m3 _ (by decide)) (m3 _ (by decide)) (m3 _ (by decide))) Y7), by omega⟩
              · rw [Y8p i0 (by rw [i3]; omega) F hF, m3 F (mem_no (L := [fM_pFirst, fM_pTest, fM_pWhat]) (by decide) F hF)]
              · rw [Y8 j (by rw [j3]; omega) F hF, m3 F (mem_no (L := tA) (by decide) F hF)]
            · have := Z5 i (by omega) h2
              rw [show j + 1 + (i - (i0 + 1)) = j + (i - i0) from by omega] at this
              exact ⟨this.1, by omega⟩
        · rw [decide_eq_false ck, if_neg ck, if_pos b2i_f]
          exact ⟨σ2, τ1, by rw [e_r_ruleShape_178, if_pos b2i_f], rfl, out (Or.inr tr) (Or.inl P2)⟩
      · obtain ⟨g1, g2, g3, g4, g5, g6, g7⟩ := X1
        have kN : σ2 fT_kinds 0 N = 8 := by rw [f2 _ (by decide)]; exact g3
        have bN : b = N := by rw [← pb]; exact g2
        have ta : c_r_takes d σ2 5 = some (0, σ2) := by
          obtain ⟨e, rfl⟩ : ∃ e, d = e + 1 := ⟨d - 1, by omega⟩
          have PX : PR σ2 (ga_up (ga_up τ1 fM_isBad 0 0 0) fM_at 0 0 (f + N)) f N := by
            refine ⟨⟨by omega, by omega, ?_, ?_⟩, Or.inl ⟨by rw [b2]; exact cb, ?_, by omega, by omega, ?_⟩⟩
            · rw [up_eq]; omega
            · rw [up_eq]; omega
            · rw [up_F (by decide), up_eq]
            · rw [up_eq, p2, bN]
          have EX : ENV σ2 (ga_up (ga_up τ1 fM_isBad 0 0 0) fM_at 0 0 (f + N)) f N := ENV_c E2 rfl (by rw [up_F (by decide), up_F (by decide)])
          rw [s_r_takes EX PX (by omega)]
          have cn : ¬ (σ2 fR_bad 0 0 = -1 ∧ σ2 fT_kinds 0 (σ2 fR_p 0 0) = 5) := by
            rw [p2, bN, kN]; omega
          rw [decide_eq_false cn, if_neg cn]
          rfl
        rw [e_r_ruleShape_287, ta, e_m_phrases_4, mb_isNext (by omega) g4]
        simp only [Option.bind_some]
        rw [if_pos trivial]
        refine ⟨σ2, τ1, by rw [e_r_ruleShape_178, if_pos rfl], rfl, out (Or.inl ?_) (Or.inr ⟨by rw [b2]; exact cb, by rw [p2]; exact bN, kN, g4, g5, g6, g7⟩)⟩
        intro z
        omega
    · have P1 : PR σ1 τ1 f N := by
        rcases X1 with X1 | X1
        · exact X1
        · exact absurd X1.1 cb
      have P2 : PR σ2 τ1 f N := PR_c P1 (f2 _ (by decide)) (f2 _ (by decide)) rfl rfl rfl
      have cn : ¬ (σ2 fR_bad 0 0 = -1 ∧ σ2 fT_kinds 0 (σ2 fR_p 0 0) = 5) := fun z => cb (by rw [← b2]; exact z.1)
      rw [if_neg cb, e_r_ruleShape_287, s_r_takes E2 P2 (by omega), e_m_phrases_4, s_nx E2 P2 (by omega) (c := 5) (by decide) (by decide)]
      simp only [Option.bind_some]
      rw [decide_eq_false cn, if_neg cn, if_pos b2i_f]
      exact ⟨σ2, τ1, by rw [e_r_ruleShape_178, if_pos b2i_f], rfl, out (Or.inl (fun z => cb (by rw [← b2]; exact z.1))) (Or.inl P2)⟩

/-! the names of a list; a place with its name -/
/-- names one behind the other -/
def oN (σ : ga_S) : Prop := ∀ k, 0 ≤ k → k + 1 < σ fR_names 0 0 → σ fR_nameTo 0 k ≤ σ fR_nameFrom 0 (k + 1)
def LI (σ τ : ga_S) (f : Int) : Prop := σ fR_runs 0 0 = 0 ∧ τ fM_runs 0 0 = σ fR_names 0 0 ∧ 0 ≤ σ fR_names 0 0 ∧ (∀ k, 0 ≤ k → k < σ fR_names 0 0 → nn σ τ f k k) ∧ oN σ ∧ ∀ k, 0 ≤ k → k < σ fR_names 0 0 → σ fR_nameTo 0 k ≤ σ fR_p 0 0
theorem nn_keep {σ σ' τ τ' : ga_S} {f k r : Int} (h : nn σ τ f k r) (h1 : σ' fR_nameFrom 0 k = σ fR_nameFrom 0 k) (h2 : σ' fR_nameTo 0 k = σ fR_nameTo 0 k) (hm : rKeep τ τ') (hs : σ' fT_kinds = σ fT_kinds) : nn σ' τ' f k r := by
  unfold nn at h ⊢
  rw [h1, h2]
  exact rnR_keep h hm hs
theorem P_list {f : Int} {N : Nat} {d e : Nat} (hd : 4 ≤ d) (he : 4 ≤ e) : ∀ (n : Nat) (σ τ : ga_S), ENV σ τ f N → PR σ τ f N → JR σ τ → σ fR_bad 0 0 = -1 → LI σ τ f → (N : Int) - σ fR_p 0 0 < n → ∃ σ' τ', r_otherShape_443 d σ 1 = r_otherShape_443 d σ' 0 ∧ m_list_10 e τ 1 1 = m_list_46 e τ' ∧ PR σ' τ' f N ∧ JR σ' τ' ∧ fr nlC σ σ' ∧ fr rmL τ τ' ∧ (σ' fR_bad 0 0 = -1 → LI σ' τ' f ∧ 0 < σ' fR_names 0 0) := by
  intro n
  induction n with
  | zero =>
    intro σ τ hE hP _ hb _ hn
    have := PR_ok hP hb
    omega
  | succ n ih =>
    intro σ τ hE hP hJ hb hL hn
    have ok := PR_ok hP hb
    obtain ⟨L1, L2, L3, L4, L6, L7⟩ := hL
    obtain ⟨r, σ1, τ1, c1', m1', P1, J1, f1, g1, r1, k1, k2, k3, X⟩ := P_nol hE hP hJ ⟨L3, by omega⟩ (d := 4) (by omega)
    have E1 : ENV σ1 τ1 f N := ENV_c hE (f1 _ (by decide)) (g1 _ (by decide))
    obtain ⟨b, σ2, τ2, c2', m2', P2, f2, g2, b2, ht, hff⟩ := P_sep E1 P1 (d := 4) (by omega)
    have c1 : c_r_nameOfList d σ = some (0, σ1) := am_mono c1' hd
    have m1 : c_m_name0 e τ = some (r, τ1) := am_mono m1' he
    have c2 : c_r_separator d σ1 = some (b2i b, σ2) := am_mono c2' hd
    have m2 : c_m_isMore e τ1 = some (b2i b, τ2) := am_mono m2' he
    have E2 : ENV σ2 τ2 f N := ENV_c E1 (f2 _ (by decide)) (g2 _ (by decide))
    rw [e_r_otherShape_443, if_neg (by decide), c1, e_m_list_10, if_neg (by decide), if_pos ok.1, if_neg (by decide), m1]
    simp only [Option.bind_some]
    rw [c2, e_m_list_38, m2]
    simp only [Option.bind_some]
    have F2 : fr nlC σ σ2 := fr_trans f1 (fr_sub f2 (by decide))
    have G2 : fr rmL τ τ2 := fr_trans g1 (fr_sub g2 (by decide))
    have J2 : JR σ2 τ2 := by
      refine JR_mv J1 (by rw [f2 _ (by decide)]) (by rw [g2 _ (by decide)]) (f2 _ (by decide)) (fun z => ⟨by rw [b2] at z; exact z, ?_⟩)
      cases b
      · left; rw [(hff rfl).1]
      · right; exact (ht rfl).2
    have LI2 : σ2 fR_bad 0 0 = -1 → LI σ2 τ2 f ∧ 0 < σ2 fR_names 0 0 := by
      intro z
      rw [b2] at z
      obtain ⟨X1, X2, X3, X4, X5, X6, X7, X8⟩ := X z
      have p12 : σ1 fR_p 0 0 ≤ σ2 fR_p 0 0 := by
        cases b
        · rw [(hff rfl).1]; exact Int.le_refl _
        · exact Int.le_of_lt (ht rfl).2
      have n2 : σ2 fR_names 0 0 = σ fR_names 0 0 + 1 := by rw [f2 _ (by decide)]; exact X5
      refine ⟨⟨?_, ?_, by omega, fun k h1 h2 => ?_, fun k h1 h2 => ?_, fun k h1 h2 => ?_⟩, by omega⟩
      · rw [f2 _ (by decide), r1]; exact L1
      · rw [g2 _ (by decide), n2, X4, L2]
      · refine nn_keep (σ := σ1) (τ := τ1) ?_ (by rw [f2 _ (by decide)]) (by rw [f2 _ (by decide)]) (rKeep_eq (g2 _ (by decide)) (g2 _ (by decide)) (g2 _ (by decide))) (f2 _ (by decide))
        by_cases ck : k = σ fR_names 0 0
        · rw [X3, L2] at X6
          rw [ck]; exact X6
        · have kk := k3 k (by omega)
          exact nn_keep (L4 k h1 (by omega)) kk.1 kk.2 k2 (f1 _ (by decide))
      · rw [n2] at h2
        rw [f2 fR_nameTo (by decide), f2 fR_nameFrom (by decide), (k3 k (by omega)).2]
        by_cases ck : k + 1 = σ fR_names 0 0
        · rw [ck]
          have := L7 k h1 (by omega)
          omega
        · rw [(k3 (k + 1) (by omega)).1]
          exact L6 k h1 (by omega)
      · rw [n2] at h2
        rw [f2 fR_nameTo (by decide)]
        by_cases ck : k = σ fR_names 0 0
        · rw [ck]; omega
        · rw [(k3 k (by omega)).2]
          have := L7 k h1 (by omega)
          omega
    cases b
    · refine ⟨σ2, τ2, rfl, ?_, P2, J2, F2, G2, LI2⟩
      rw [e_m_list_10, if_pos b2i_f]
    · have z := (ht rfl).1
      obtain ⟨X1, X2, X3, X4, X5, X6, _⟩ := X z
      have z2 : σ2 fR_bad 0 0 = -1 := by rw [b2]; exact z
      obtain ⟨σ', τ', c3, m3, P3, J3, f3, g3, Y⟩ := ih σ2 τ2 E2 P2 J2 z2 (LI2 z2).1 (by have := (ht rfl).2; omega)
      exact ⟨σ', τ', c3, m3, P3, J3, fr_trans F2 f3, fr_trans G2 g3, Y⟩
theorem s_m_name0 {σ τ : ga_S} {f : Int} {N : Nat} (hE : ENV σ τ f N) (h : PR σ τ f N) {d : Nat} (hd : 1 ≤ d) : c_m_name0 (d + 1) τ = m_name0_20 d (artM σ τ) := by
  have L := s_m_lookArt hE h (d := d) (by omega)
  have e : c_m_name0 (d + 1) τ = ((c_m_look d τ).bind (fun q1 => c_m_isArt d q1.2 q1.1)).bind (fun q2 => if q2.1 = 0 then m_name0_20 d q2.2 else m_name0_20 d (ga_up q2.2 fM_at 0 0 (w32 (q2.2 fM_at 0 0 + 1)))) := by
    rw [e_m_name0, Option.bind_assoc]
  rw [e, L]; simp only [Option.bind_some]
  have hf := hE.1
  have hN := hE.2.1
  by_cases c : artAt σ = true
  · have a := artAt_lt hE h c
    rw [c, if_neg b2i_n, w32_ok (by omega)]
    unfold artM
    rw [if_pos c]
  · have c' : artAt σ = false := by cases z : artAt σ with
      | true => exact absurd z c
      | false => rfl
    rw [c', if_pos b2i_f]
    unfold artM
    rw [if_neg c]
def plC : List Nat := [fR_p, fR_bad, fR_runs, fR_runFrom, fR_runTo, fR_placeSort, fR_placeFrom, fR_placeTo]
def plM : List Nat := fM_placeWay :: fM_placeRun :: rmL
theorem P_placed {σ τ : ga_S} {f : Int} {N : Nat} (hE : ENV σ τ f N) (h : PR σ τ f N) (hJ : JR σ τ) (hb : σ fR_bad 0 0 = -1) (hw : plS (σ fT_kinds 0 (σ fR_p 0 0)) ≠ 0) {d : Nat} (hd : 4 ≤ d) : ∃ σ' τ', c_r_placed d σ = some (0, σ') ∧ ((c_m_placing d τ).bind fun q10 => (c_m_name0 d (ga_up q10.2 fM_placeWay 0 0 q10.1)).bind fun q11 => some ((0 : Int), (ga_up q11.2 fM_placeRun 0 0 q11.1))) = some (0, τ') ∧ PR σ' τ' f N ∧ JR σ' τ' ∧ fr plC σ σ' ∧ fr plM τ τ' ∧ σ' fR_runs 0 0 = σ fR_runs 0 0 ∧ rKeepC σ σ' ∧ rKeep τ τ' ∧ (σ' fR_bad 0 0 = -1 → σ' fR_placeSort 0 0 = plS (σ fT_kinds 0 (σ fR_p 0 0)) ∧ τ' fM_placeWay 0 0 = plS (σ fT_kinds 0 (σ fR_p 0 0)) ∧ rnR σ' τ' f (τ' fM_placeRun 0 0) (σ' fR_placeFrom 0 0) (σ' fR_placeTo 0 0)) := by
  obtain ⟨d, rfl⟩ : ∃ e, d = e + 1 := ⟨d - 1, by omega⟩
  have hf := hE.1
  have hN := hE.2.1
  obtain ⟨σ1, τ1, c1', m1', P1, f1, g1, s1, lt1, _⟩ := P_place hE h hb hw (d := d) (by omega)
  have m1 : c_m_placing (d + 1) τ = some (plS (σ fT_kinds 0 (σ fR_p 0 0)), τ1) := am_mono m1' (by omega)
  obtain ⟨w, ew⟩ : ∃ w, w = plS (σ fT_kinds 0 (σ fR_p 0 0)) := ⟨_, rfl⟩
  rw [← ew] at m1 s1
  have J1 : JR σ1 τ1 := JR_mv hJ (by rw [f1 _ (by decide)]) (by rw [g1 _ (by decide)]) (f1 _ (by decide)) (fun z => ⟨hb, Or.inr (lt1 z)⟩)
  obtain ⟨τ2, e2⟩ : ∃ x, x = ga_up τ1 fM_placeWay 0 0 w := ⟨_, rfl⟩
  have g2 : fr [fM_placeWay] τ1 τ2 := by rw [e2]; exact fr_u (by decide)
  have E2 : ENV σ1 τ2 f N := ENV_c hE (f1 _ (by decide)) ((g2 _ (by decide)).trans (g1 _ (by decide)))
  have P2 : PR σ1 τ2 f N := PR_c P1 rfl rfl (g2 _ (by decide)) (g2 _ (by decide)) (g2 _ (by decide))
  have J2 : JR σ1 τ2 := JR_mv J1 rfl (by rw [g2 _ (by decide)]) rfl (fun z => ⟨z, Or.inl rfl⟩)
  obtain ⟨A1, A2, A3, A4, A5⟩ := P_art E2 P2
  have E3 : ENV (artC σ1) (artM σ1 τ2) f N := ENV_c E2 (A2 _ (by decide)) (A3 _ (by decide))
  have J3 : JR (artC σ1) (artM σ1 τ2) := JR_mv J2 (by rw [A2 _ (by decide)]) (by rw [A3 _ (by decide)]) (A2 _ (by decide)) (fun z => by
    rw [A4] at z
    refine ⟨z, ?_⟩
    have := A5 z
    by_cases c : artAt σ1 = true
    · rw [if_pos c] at this; right; omega
    · rw [if_neg c] at this; left; omega)
  obtain ⟨σ4, e4⟩ : ∃ x, x = ga_up (artC σ1) fR_placeFrom 0 0 ((artC σ1) fR_p 0 0) := ⟨_, rfl⟩
  have f4 : fr [fR_placeFrom] (artC σ1) σ4 := by rw [e4]; exact fr_u (by decide)
  have E4 : ENV σ4 (artM σ1 τ2) f N := ENV_c E3 (f4 _ (by decide)) rfl
  have P4 : PR σ4 (artM σ1 τ2) f N := PR_c A1 (f4 _ (by decide)) (f4 _ (by decide)) rfl rfl rfl
  have J4 : JR σ4 (artM σ1 τ2) := JR_n J3 (n := (artC σ1) fR_runs 0 0) J3.1 (Int.le_refl _) (by rw [f4 _ (by decide)]) (by rw [f4 _ (by decide)]) (by rw [f4 _ (by decide)]) (f4 _ (by decide))
  obtain ⟨r, σ5, τ5, c5, m5, Q, _, _, G⟩ := T_runU E4 P4 J4 (d := d) (by omega) 0
  obtain ⟨r', σ5', τ5', c5', m5', Q', _⟩ := S_run E4 P4 J4 (d := d) (by omega)
  have eqs : σ5' = σ5 ∧ τ5' = τ5 := by
    have h1 := c5'.symm.trans c5
    have h2 := m5'.symm.trans m5
    injection h1 with h1; injection h1 with _ h1
    injection h2 with h2; injection h2 with _ h2
    exact ⟨h1, h2⟩
  rw [eqs.1, eqs.2] at Q'
  obtain ⟨R1, R2, R3, R4, R5, R6, R7, R8⟩ := Q'
  obtain ⟨σ6, e6⟩ : ∃ x, x = ga_up (ga_up σ5 fR_placeTo 0 0 (σ5 fR_p 0 0)) fR_runs 0 0 ((artC σ1) fR_runs 0 0) := ⟨_, rfl⟩
  obtain ⟨τ6, e7⟩ : ∃ x, x = ga_up τ5 fM_placeRun 0 0 r := ⟨_, rfl⟩
  have f6 : fr [fR_placeTo, fR_runs] σ5 σ6 := by rw [e6]; exact fr_trans (fr_u (by decide)) (fr_u (by decide))
  have g6 : fr [fM_placeRun] τ5 τ6 := by rw [e7]; exact fr_u (by decide)
  have ar : (artC σ1) fR_runs 0 0 = σ fR_runs 0 0 := by rw [A2 _ (by decide), f1 _ (by decide)]
  have r6 : σ6 fR_runs 0 0 = σ fR_runs 0 0 := by rw [e6, up_eq]; exact ar
  have r4 : σ4 fR_runs 0 0 = σ fR_runs 0 0 := by rw [f4 _ (by decide)]; exact ar
  have cF : fr plC σ σ6 := fr_trans (fr_trans (fr_sub f1 (by decide)) (fr_sub A2 (by decide))) (fr_trans (fr_sub f4 (by decide)) (fr_trans (fr_sub R3 (by decide)) (fr_sub f6 (by decide))))
  have mF : fr plM τ τ6 := fr_trans (fr_trans (fr_sub g1 (by decide)) (fr_sub g2 (by decide))) (fr_trans (fr_sub A3 (by decide)) (fr_trans (fr_sub R4 (by decide)) (fr_sub g6 (by decide))))
  refine ⟨σ6, τ6, ?_, ?_, PR_c R1 (f6 _ (by decide)) (f6 _ (by decide)) (g6 _ (by decide)) (g6 _ (by decide)) (g6 _ (by decide)), ?_, cF, mF, r6, ?_, ?_, fun z => ⟨?_, ?_, ?_⟩⟩
  · rw [e_r_placed, c1']
    simp only [Option.bind_some]
    rw [s_r_article E2 P2 (by omega)]
    simp only [Option.bind_some]
    rw [← e4, c5]
    simp only [Option.bind_some]
    rw [← e6]
  · rw [m1]
    simp only [Option.bind_some]
    rw [← e2, s_m_name0 E2 P2 (by omega), e_m_name0_20, m5]
    simp only [Option.bind_some]
    rw [← e7]
  · have JJ : JR σ6 τ5 := JR_n R2 (n := σ fR_runs 0 0) hJ.1 (by omega) r6 (by rw [f6 _ (by decide)]) (by rw [f6 _ (by decide)]) (f6 _ (by decide))
    exact JR_mv JJ rfl (by rw [g6 _ (by decide)]) rfl (fun z => ⟨z, Or.inl rfl⟩)
  · intro i hi
    rw [f6 fR_runFrom (by decide), f6 fR_runTo (by decide)]
    have := R5 i (by rw [r4]; exact hi)
    rw [this.1, this.2, f4 _ (by decide), f4 _ (by decide), A2 _ (by decide), A2 _ (by decide), f1 _ (by decide), f1 _ (by decide)]
    exact ⟨rfl, rfl⟩
  · exact rKeep_trans (rKeep_eq ((A3 _ (by decide)).trans ((g2 _ (by decide)).trans (g1 _ (by decide)))) ((A3 _ (by decide)).trans ((g2 _ (by decide)).trans (g1 _ (by decide)))) ((A3 _ (by decide)).trans ((g2 _ (by decide)).trans (g1 _ (by decide))))) (rKeep_trans R6 (rKeep_eq (g6 _ (by decide)) (g6 _ (by decide)) (g6 _ (by decide))))
  · rw [f6 _ (by decide), R3 _ (by decide), f4 _ (by decide), A2 _ (by decide), ← ew]; exact s1
  · rw [g6 _ (by decide), R4 _ (by decide), A3 _ (by decide), e2, up_eq, ew]
  · rw [f6 _ (by decide)] at z
    obtain ⟨H1, H2, H3⟩ := G z
    have a1 : σ6 fR_placeFrom 0 0 = σ4 fR_p 0 0 := by
      rw [f6 _ (by decide), R3 _ (by decide), e4, up_eq, up_F (by decide)]
    have a2 : σ6 fR_placeTo 0 0 = σ5 fR_p 0 0 := by rw [e6, up_F (by decide), up_eq]
    have a3 : τ6 fM_placeRun 0 0 = r := by rw [e7, up_eq]
    rw [a1, a2, a3]
    exact rnR_keep H3 (rKeep_eq (g6 _ (by decide)) (g6 _ (by decide)) (g6 _ (by decide))) (f6 _ (by decide))

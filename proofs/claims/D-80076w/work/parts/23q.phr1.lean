/-! phrases: their end -/
/-- the places of both, or both wrong, or the component at an end that the model finds wrong already -/
def PE (σ τ : ga_S) (f : Int) (N : Nat) : Prop := PR σ τ f N ∨ (σ fR_bad 0 0 = -1 ∧ σ fR_p 0 0 = N ∧ σ fT_kinds 0 N = 8 ∧ τ fM_isBad 0 0 = 1 ∧ τ fM_badAt 0 0 = f + N ∧ f ≤ τ fM_at 0 0 ∧ τ fM_at 0 0 ≤ f + N)
theorem JR_n {σ τ σ' : ga_S} (h : JR σ τ) {n : Int} (hn : 0 ≤ n) (hn2 : n ≤ σ fR_runs 0 0) (h1 : σ' fR_runs 0 0 = n) (h2 : σ' fR_bad 0 0 = σ fR_bad 0 0) (h3 : σ' fR_p 0 0 = σ fR_p 0 0) (h4 : σ' fT_kinds = σ fT_kinds) : JR σ' τ := by
  obtain ⟨j1, j2, j3, j4⟩ := h
  unfold JR
  rw [h1, h2, h3, h4]
  exact ⟨hn, by omega, j3, j4⟩
theorem T_pend {σ τ : ga_S} {f : Int} {N : Nat} (hE : ENV σ τ f N) (h : PR σ τ f N) (hJ : JR σ τ) {d : Nat} (hd : 2 ≤ d) {n b : Int} (hn : 0 ≤ n) (hn2 : n ≤ σ fR_runs 0 0) (hT : σ fR_bad 0 0 = -1 → toT (σ fT_kinds 0) 1 (σ fR_p 0 0) b) (hbN : b ≤ N) (hp : 0 ≤ τ fM_pCount 0 0 ∧ τ fM_pCount 0 0 < 1700) : ∃ σ' τ', r_phraseShape_349 d σ b n = some (0, σ') ∧ m_phrase_409 d τ = some (0, τ') ∧ PE σ' τ' f N ∧ JR σ' τ' ∧ fr [fR_p, fR_bad, fR_runs] σ σ' ∧ fr [fM_at, fM_isBad, fM_badAt, fM_pCount] τ τ' ∧ σ' fR_runs 0 0 = n ∧ τ' fM_pCount 0 0 = τ fM_pCount 0 0 + 1 ∧ (σ' fR_bad 0 0 = -1 → σ fR_bad 0 0 = -1 ∧ σ fR_p 0 0 = b ∧ σ' fR_p 0 0 = b) := by
  have hf := hE.1
  have hN := hE.2.1
  have hR := h.1
  obtain ⟨d, rfl⟩ : ∃ e, d = e + 1 := ⟨d - 1, by omega⟩
  obtain ⟨σ1, eσ1⟩ : ∃ x, x = ga_up σ fR_runs 0 0 n := ⟨_, rfl⟩
  have b1 : σ1 fR_bad = σ fR_bad := by rw [eσ1, up_F (by decide)]
  have p1 : σ1 fR_p = σ fR_p := by rw [eσ1, up_F (by decide)]
  have k1 : σ1 fT_kinds = σ fT_kinds := by rw [eσ1, up_F (by decide)]
  have f1 : fr [fR_p, fR_bad, fR_runs] σ σ1 := by rw [eσ1]; exact fr_u (by decide)
  have J1 : JR σ1 τ := JR_n hJ hn hn2 (by rw [eσ1, up_eq]) (by rw [b1]) (by rw [p1]) k1
  by_cases cb : σ fR_bad 0 0 = -1
  · have ok := h.2.resolve_right (fun z => by omega)
    obtain ⟨t1, t2, t3⟩ := hT cb
    have i59 : τ fM_token 0 (f + σ fR_p 0 0) = 59 ↔ σ fT_kinds 0 (σ fR_p 0 0) = 5 := ENV_is hE ok.2.2.1 ok.2.2.2.1 (c := 5) (by omega)
    have i46 : τ fM_token 0 (f + σ fR_p 0 0) = 46 ↔ σ fT_kinds 0 (σ fR_p 0 0) = 3 := ENV_is hE ok.2.2.1 ok.2.2.2.1 (c := 3) (by omega)
    rw [e_r_phraseShape_349, ← eσ1, e_r_end, b1, if_pos cb, p1, e_m_phrase_409, if_pos ok.2.1, ok.2.2.2.2, ck_ok _ (by omega)]
    have P2 : PR σ1 (ga_up τ fM_pCount 0 0 (τ fM_pCount 0 0 + 1)) f N := PR_c h p1 b1 (up_F (by decide) ..) (up_F (by decide) ..) (up_F (by decide) ..)
    have J2 : JR σ1 (ga_up τ fM_pCount 0 0 (τ fM_pCount 0 0 + 1)) := JR_mv J1 rfl (by rw [up_F (by decide)]) rfl (fun z => ⟨z, Or.inl rfl⟩)
    have fin : σ fR_p 0 0 = b → ∃ σ' τ', some ((0 : Int), σ1) = some (0, σ') ∧ some ((0 : Int), ga_up τ fM_pCount 0 0 (w32 (τ fM_pCount 0 0 + 1))) = some (0, τ') ∧ PE σ' τ' f N ∧ JR σ' τ' ∧ fr [fR_p, fR_bad, fR_runs] σ σ' ∧ fr [fM_at, fM_isBad, fM_badAt, fM_pCount] τ τ' ∧ σ' fR_runs 0 0 = n ∧ τ' fM_pCount 0 0 = τ fM_pCount 0 0 + 1 ∧ (σ' fR_bad 0 0 = -1 → σ fR_bad 0 0 = -1 ∧ σ fR_p 0 0 = b ∧ σ' fR_p 0 0 = b) := by
      intro e
      rw [w32_ok (by omega)]
      exact ⟨_, _, rfl, rfl, Or.inl P2, J2, f1, fr_u (by decide), by rw [eσ1, up_eq], up_eq .., fun _ => ⟨cb, e, by rw [p1]; exact e⟩⟩
    by_cases c5 : σ fT_kinds 0 (σ fR_p 0 0) = 5
    · have e : σ fR_p 0 0 = b := by
        refine Classical.byContradiction fun hc => t3 _ (Int.le_refl _) (by omega) ?_
        rw [c5]; unfold endT; omega
      rw [if_pos (i59.mpr c5), if_pos e]
      exact fin e
    · rw [if_neg (fun z => c5 (i59.mp z)), ck_ok _ (by omega)]
      by_cases c3 : σ fT_kinds 0 (σ fR_p 0 0) = 3
      · have e : σ fR_p 0 0 = b := by
          refine Classical.byContradiction fun hc => t3 _ (Int.le_refl _) (by omega) ?_
          rw [c3]; unfold endT; omega
        rw [if_pos (i46.mpr c3), if_pos e]
        exact fin e
      · rw [if_neg (fun z => c3 (i46.mp z)), w32_ok (by omega)]
        by_cases e : σ fR_p 0 0 = b
        · -- the end of the text
          have k8 : σ fT_kinds 0 b = 8 := by
            clear fin
            rw [← e] at t2
            unfold endT at t2
            rw [← e]
            omega
          have eN : b = N := by
            by_cases x : b = N
            · exact x
            · have := hE.2.2.2.2.2 b (by omega) (by omega)
              exact absurd k8 this.2
          rw [if_pos e, s_m_odd (by omega), up_F (F' := fM_isBad) (by decide), if_pos ok.2.1, up_F (F' := fM_at) (by decide)]
          simp only [Option.bind_some]
          refine ⟨σ1, _, rfl, rfl, Or.inr ⟨by rw [b1]; exact cb, by rw [p1]; omega, by rw [k1, ← eN]; exact k8, ?_, ?_, ?_, ?_⟩, ?_, f1, ?_, by rw [eσ1, up_eq], ?_, fun _ => ⟨cb, e, by rw [p1]; exact e⟩⟩
          · rw [up_F (by decide), up_eq]
          · rw [up_eq, ok.2.2.2.2]; omega
          · rw [up_F (by decide), up_F (by decide), up_F (by decide)]; omega
          · rw [up_F (by decide), up_F (by decide), up_F (by decide)]; omega
          · exact JR_mv J1 rfl (by rw [up_F (by decide), up_F (by decide), up_F (by decide)]) rfl (fun z => ⟨z, Or.inl rfl⟩)
          · exact fr_trans (fr_trans (fr_u (by decide)) (fr_u (by decide))) (fr_u (by decide))
          · rw [up_F (by decide), up_F (by decide), up_eq]
        · obtain ⟨σ', τ', g1, g2, g3, g4, g5, g6⟩ := P_wrong P2 (d := d) (by omega)
          have g2' : c_m_odd (d + 1) (ga_up τ fM_pCount 0 0 (τ fM_pCount 0 0 + 1)) = some (0, τ') := am_mono g2 (by omega)
          rw [if_neg e, g1, g2']
          refine ⟨σ', τ', rfl, rfl, Or.inl g3, ?_, fr_trans f1 (fr_sub g5 (by decide)), fr_trans (fr_u (by decide)) (fr_sub g6 (by decide)), by rw [g5 _ (by decide), eσ1, up_eq], by rw [g6 _ (by decide), up_eq], fun z => absurd z g4⟩
          exact JR_bad J1 (by rw [g5 _ (by decide)]) (by rw [g6 _ (by decide), up_F (by decide)]) g4
  · have bad := (h.2.resolve_left (fun z => cb z.1)).2.2.1
    have nb : σ1 fR_bad 0 0 ≠ -1 := by rw [b1]; exact cb
    rw [e_r_phraseShape_349, ← eσ1, cb_end (by omega) nb, e_m_phrase_409, if_neg (by omega), w32_ok (by omega)]
    refine ⟨σ1, _, rfl, rfl, Or.inl (PR_c h p1 b1 (up_F (by decide) ..) (up_F (by decide) ..) (up_F (by decide) ..)), ?_, f1, fr_u (by decide), by rw [eσ1, up_eq], up_eq .., fun z => absurd z nb⟩
    exact JR_mv J1 rfl (by rw [up_F (by decide)]) rfl (fun z => ⟨z, Or.inl rfl⟩)
/-- parts of a phrase: the component's runs may grow -/
def uQ (σ σ' τ τ' : ga_S) (f : Int) (N : Nat) (j : Int) : Prop := PR σ' τ' f N ∧ JR σ' τ' ∧ fr tsC σ σ' ∧ fr tsM τ τ' ∧ σ fR_runs 0 0 ≤ σ' fR_runs 0 0 ∧ rKeepC σ σ' ∧ rKeep τ τ' ∧ tKeep τ τ' j
theorem uQ_trans {σ σ1 σ2 τ τ1 τ2 : ga_S} {f : Int} {N : Nat} {j : Int} (h : uQ σ σ1 τ τ1 f N j) (h2 : uQ σ1 σ2 τ1 τ2 f N j) : uQ σ σ2 τ τ2 f N j := by
  obtain ⟨a1, a2, a3, a4, a5, a6, a7, a8⟩ := h
  obtain ⟨b1, b2, b3, b4, b5, b6, b7, b8⟩ := h2
  exact ⟨b1, b2, fr_trans a3 b3, fr_trans a4 b4, by omega, rKeepC_trans a6 a5 b6, rKeep_trans a7 b7, tKeep_trans a8 b8⟩
theorem tsQ_u {σ σ' τ τ' : ga_S} {f : Int} {N : Nat} {j : Int} (h : tsQ σ σ' τ τ' f N j) : uQ σ σ' τ τ' f N j := by
  obtain ⟨a1, a2, a3, a4, a5, a6, a7, a8⟩ := h
  exact ⟨a1, a2, a3, a4, by omega, a6, a7, a8⟩
theorem uQ_E {σ σ' τ τ' : ga_S} {f : Int} {N : Nat} {j : Int} (h : uQ σ σ' τ τ' f N j) (hE : ENV σ τ f N) : ENV σ' τ' f N := ENV_c hE (h.2.2.1 _ (by decide)) (h.2.2.2.1 _ (by decide))
/-- a run that stays for now -/
theorem T_runU {σ τ : ga_S} {f : Int} {N : Nat} (hE : ENV σ τ f N) (h : PR σ τ f N) (hJ : JR σ τ) {d : Nat} (hd : 2 ≤ d) (j : Int) : ∃ r σ' τ', c_r_run d σ = some (0, σ') ∧ c_m_run d τ = some (r, τ') ∧ uQ σ σ' τ τ' f N j ∧ fr rcL σ σ' ∧ fr rmL τ τ' ∧ (σ' fR_bad 0 0 = -1 → σ fR_bad 0 0 = -1 ∧ σ fR_p 0 0 < σ' fR_p 0 0 ∧ rnR σ' τ' f r (σ fR_p 0 0) (σ' fR_p 0 0)) := by
  have hB := JR_b hJ
  have hR := h.1
  obtain ⟨r, σ', τ', e1, e2, e3, e4, e5, e6⟩ := P_run hE h hd hB.1 hB.2
  have kk : σ' fT_kinds = σ fT_kinds := e4 _ (by decide)
  rcases e6 with b | ⟨b0, b⟩
  · exact ⟨r, σ', τ', e1, e2, ⟨e3, JR_bad hJ (by rw [b.2.1]) (by rw [b.2.2.1]) b.1, fr_sub e4 (by decide), fr_sub e5 (by decide), by rw [b.2.1]; exact Int.le_refl _, rBad_keepC b, rBad_keep b, tKeep_f e5 (mem_no (by decide))⟩, e4, e5, fun z => absurd z b.1⟩
  · have ok := e3.2.resolve_right (fun z => by have := b.1; omega)
    have F := frE_r hE (p := σ fR_p 0 0) (by omega) (by omega)
    have J2 : JR σ' τ' := JR_run hJ hE kk (a := σ fR_p 0 0) (r := r) (fun _ => ⟨Int.le_refl _, Or.inl rfl⟩) ⟨b0, b⟩ ok.2.2.2.1 (by omega)
    have rs := b.2.2.2.2.2.1
    have rm := b.2.2.2.2.2.2.1
    refine ⟨r, σ', τ', e1, e2, ⟨e3, J2, fr_sub e4 (by decide), fr_sub e5 (by decide), by omega, rOk_keepC b, rOk_keep b, tKeep_f e5 (mem_no (by decide))⟩, e4, e5, fun _ => ⟨b0, b.2.2.1, ?_⟩⟩
    have ra := b.2.2.2.2.2.2.2.2.2.1 r
    have rz := b.2.2.2.2.2.2.2.2.2.2 r
    rw [if_pos b.2.1] at ra rz
    refine ⟨by have := b.2.1; omega, by have := b.2.1; omega, ra, rz, b.2.2.1, ⟨by omega, ENV_st hE kk ok.2.2.2.1⟩, fun q h1 h2 => ?_⟩
    rw [kk]
    rw [b.2.2.2.1] at h2
    exact F.2.2.2 q h1 h2

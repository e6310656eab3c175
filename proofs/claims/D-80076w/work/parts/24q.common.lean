/-! other sentences, whole -/
theorem P_is {σ τ : ga_S} {f : Int} {N : Nat} (H : stH σ τ f N) {b : Int} (hb0 : 0 ≤ b) (hbN : b ≤ N) (hV : σ fT_kinds 0 b = 13 ∨ σ fT_kinds 0 b = 14) (hq : ∀ q, 0 ≤ q → q < b → ¬ vbE (σ fT_kinds 0 q)) {d : Nat} (hd : 5 ≤ d) : osA σ τ f N (r_otherShape_362 d σ b) (m_common_115 d τ) := by
  have H' := H
  obtain ⟨hE, hP, hJ, hb, hp, hr, _⟩ := H
  have hf := hE.1
  have hN := hE.2.1
  have hN5 := hE.2.2.1
  have ok := PR_ok hP hb
  have a0 : τ fM_at 0 0 = f + 0 := by omega
  have is0 := fun c => s_r_is (σ := σ) (d := d) (by omega) (k := 0) (by omega) c
  rw [e_r_otherShape_362, is0, e_m_common_115, a0, s_m_beginsOf hE (by omega) (p := 0) (by omega) (by omega)]
  simp only [Option.bind_some]
  have no9 : ofB (σ fT_kinds 0) N 0 = false → osA σ τ f N (r_otherShape_441 d σ) (if b2i (ofB (σ fT_kinds 0) N 0) = 0 then (c_m_list d τ 1).bind fun q3 => (c_m_be d q3.2).bind fun q4 => if (q4.2 fM_isBad 0 0) = 0 then (c_m_rest d q4.2).bind fun q5 => some (0, q5.2) else some (0, q4.2) else (c_m_run d (ga_up (ga_up τ fM_sort 0 0 9) fM_at 0 0 (w32 ((τ fM_at 0 0) + 1)))).bind fun q6 => (c_m_take d q6.2 107).bind fun q7 => (c_m_name0 d q7.2).bind fun q8 => (c_m_be d q8.2).bind fun q9 => (c_m_what d q9.2).bind fun q10 => some (0, q10.2)) := by
    intro h
    rw [h, if_pos b2i_f]
    exact os_list H' hd
  by_cases c11 : σ fT_kinds 0 0 = 11
  · have lt0 : (0 : Int) < N := ENV_lt hE (by omega) c11 (by decide) (by decide)
    rw [decide_eq_true c11, if_neg b2i_n, s_r_isFree (by omega) (by omega)]
    simp only [Option.bind_some]
    by_cases c1 : σ fT_kinds 0 1 = 0
    · have F := frE_r hE (p := 1) (by omega) (by omega)
      rw [decide_eq_true c1, if_neg b2i_n, s_r_behindRun hE (by omega) (by omega) (by omega)]
      simp only [Option.bind_some]
      have lt1 : 1 < frE (σ fT_kinds 0) N 1 := by
        by_cases h : frE (σ fT_kinds 0) N 1 = 1
        · rw [h] at F; exact absurd c1 F.2.2.1
        · omega
      by_cases cl : frE (σ fT_kinds 0) N 1 < b
      · rw [if_pos cl, s_r_behindRun hE (by omega) (by omega) (by omega)]
        simp only [Option.bind_some]
        rw [s_r_is (by omega) (by omega)]
        simp only [Option.bind_some]
        by_cases c16 : σ fT_kinds 0 (frE (σ fT_kinds 0) N 1) = 16
        · have h9 : ofB (σ fT_kinds 0) N 0 = true := decide_eq_true ⟨c11, c1, c16⟩
          rw [decide_eq_true c16, if_neg b2i_n, h9, if_neg b2i_n]
          exact os_9 H' (by omega) (by omega)
        · rw [decide_eq_false c16, if_pos b2i_f]
          exact no9 (decide_eq_false (fun z => c16 z.2.2))
      · rw [if_neg cl]
        refine no9 (decide_eq_false (fun z => ?_))
        have z16 : σ fT_kinds 0 (frE (σ fT_kinds 0) N 1) = 16 := z.2.2
        by_cases ce : b = frE (σ fT_kinds 0) N 1
        · rw [ce] at hV
          omega
        · by_cases cb0 : b = 0
          · rw [cb0] at hV; omega
          · have := F.2.2.2 b (by omega) (by omega)
            omega
    · rw [decide_eq_false c1, if_pos b2i_f]
      exact no9 (decide_eq_false (fun z => c1 z.2.1))
  · rw [decide_eq_false c11, if_pos b2i_f]
    exact no9 (decide_eq_false (fun z => c11 z.1))
theorem P_common {σ τ : ga_S} {f : Int} {N : Nat} (H : stH σ τ f N) {d : Nat} (hd : 6 ≤ d) : osA σ τ f N (r_otherShape_128 d σ) (c_m_common (d + 1) τ) := by
  have H' := H
  obtain ⟨hE, hP, hJ, hb, hp, hr, _⟩ := H
  have hf := hE.1
  have hN := hE.2.1
  have hN5 := hE.2.2.1
  have ok := PR_ok hP hb
  have a0 : τ fM_at 0 0 = f + 0 := by omega
  obtain ⟨b, hb0, hbN, hV, hq⟩ := vbE_ex hE
  have is := fun c => s_r_is (σ := σ) (d := d) (by omega) (k := b) (by omega) c
  rw [e_r_otherShape_128, s_r_os_130 (by omega) (by omega) hV b.toNat 0 (by omega) (by omega) hq, e_m_common, a0, s_m_cm_12 hE hbN hV b.toNat 0 (by omega) (by omega) hq, e_r_otherShape_213, is]
  simp only [Option.bind_some]
  have none : σ fT_kinds 0 b = 3 ∨ σ fT_kinds 0 b = 8 → osA σ τ f N (r_otherShape_235 d σ b) (m_common_95 d τ (tlW (σ fT_kinds 0 b))) := by
    intro h38
    have bN : b = N := by
      by_cases c : b < N
      · have := hE.2.2.2.2.2 b hb0 c
        omega
      · omega
    have e : tlW (σ fT_kinds 0 b) = 0 := by unfold tlW; rw [if_pos h38]
    obtain ⟨d, rfl⟩ : ∃ e, d = e + 1 := ⟨d - 1, by omega⟩
    obtain ⟨σ', τ', c1, m1, P1, f1, g1, s1, t1, n1⟩ := P_none hE hP hJ.2.2.1 hb hp (d := d) (by omega)
    rw [e, bN, e_m_common_95, if_neg (by decide), if_neg (by decide), m1]
    simp only [Option.bind_some]
    exact ⟨σ', τ', go_mono c1 (by omega), rfl, P1, fr_sub f1 (by decide), fr_sub g1 (by decide), fun z _ => ⟨by rw [t1, s1], Or.inr (Or.inr (Or.inr (Or.inr ⟨s1, n1 z⟩)))⟩⟩
  by_cases c3 : σ fT_kinds 0 b = 3
  · rw [decide_eq_true c3, if_neg b2i_n]
    exact none (Or.inl c3)
  · rw [decide_eq_false c3, if_pos b2i_f, is]
    simp only [Option.bind_some]
    by_cases c8 : σ fT_kinds 0 b = 8
    · rw [decide_eq_true c8, if_neg b2i_n]
      exact none (Or.inr c8)
    · have lt := ENV_lt hE hbN rfl c3 c8
      have e : tlW (σ fT_kinds 0 b) = cdM (σ fT_kinds 0 b) := by unfold tlW; rw [if_neg (by omega)]
      rw [decide_eq_false c8, if_pos b2i_f, ck_ok _ (by omega), e]
      obtain ⟨σ1, e1⟩ : ∃ x, x = ga_up σ fR_verb 0 0 (σ fT_kinds 0 b) := ⟨_, rfl⟩
      rw [← e1]
      have f1 : fr [fR_verb] σ σ1 := by rw [e1]; exact fr_u (by decide)
      have H1 : stH σ1 τ f N := stH_c H' f1 (fr_refl [] τ) (by decide) (by decide)
      have K1 : σ1 fT_kinds = σ fT_kinds := f1 _ (by decide)
      have v1 : σ1 fR_verb 0 0 = σ fT_kinds 0 b := by rw [e1, up_eq]
      have isb : σ fT_kinds 0 b = 13 ∨ σ fT_kinds 0 b = 14 → osA σ τ f N (r_otherShape_362 d σ1 b) (m_common_115 d τ) := by
        intro h
        exact osA_l (P_is H1 hb0 hbN (by rw [K1]; exact h) (by rw [K1]; exact hq) (by omega)) (fr_sub f1 (by decide)) (fr_refl _ _)
      by_cases c13 : σ fT_kinds 0 b = 13
      · rw [if_pos c13, e_m_common_95, c13, if_pos (by decide)]
        exact isb (Or.inl c13)
      · rw [if_neg c13]
        by_cases c14 : σ fT_kinds 0 b = 14
        · rw [if_pos c14, e_m_common_95, c14, if_neg (by decide), if_pos (by decide)]
          exact isb (Or.inr c14)
        · rw [if_neg c14]
          have h3 : σ fT_kinds 0 b = 21 ∨ σ fT_kinds 0 b = 22 ∨ σ fT_kinds 0 b = 30 := by unfold vbE at hV; omega
          obtain ⟨d, rfl⟩ : ∃ e, d = e + 1 := ⟨d - 1, by omega⟩
          have w104 : cdM (σ fT_kinds 0 b) ≠ 104 ∧ cdM (σ fT_kinds 0 b) ≠ 105 := by rcases h3 with h | h | h <;> rw [h] <;> decide
          rw [e_m_common_95, if_neg w104.1, if_neg w104.2]
          have lift : ∀ {x : Option ga_R} {y : Option ga_R}, osA σ1 τ f N x y → (∀ q, x = some q → ((c_r_nameOfList (d + 1) σ1).bind fun q24 => if (q24.2 fR_verb 0 0) = 21 then r_otherShape_513 (d + 1) q24.2 17 else if (q24.2 fR_verb 0 0) = 22 then r_otherShape_513 (d + 1) q24.2 18 else r_otherShape_513 (d + 1) q24.2 19) = some q) → y = c_m_others (d + 1) τ (cdM (σ fT_kinds 0 b)) → osA σ τ f N ((c_r_nameOfList (d + 1) σ1).bind fun q24 => if (q24.2 fR_verb 0 0) = 21 then r_otherShape_513 (d + 1) q24.2 17 else if (q24.2 fR_verb 0 0) = 22 then r_otherShape_513 (d + 1) q24.2 18 else r_otherShape_513 (d + 1) q24.2 19) ((c_m_others (d + 1) τ (cdM (σ fT_kinds 0 b))).bind fun q1 => some (0, q1.2)) := by
            intro x y h hx hy
            obtain ⟨σ', τ', h1, h2, h4, h5, h6, h7⟩ := h
            refine ⟨σ', τ', hx _ h1, ?_, h4, fr_trans (fr_sub f1 (by decide)) h5, h6, h7⟩
            rw [← hy, h2]
            simp only [Option.bind_some]
          have vf : ∀ {σ2 : ga_S}, fr nlC σ1 σ2 → σ2 fR_verb 0 0 = σ fT_kinds 0 b := fun h => by rw [h _ (by decide)]; exact v1
          have ups : ∀ {s : Int} {q : ga_R}, (∀ σ2, fr nlC σ1 σ2 → (if (σ2 fR_verb 0 0) = 21 then r_otherShape_513 (d + 1) σ2 17 else if (σ2 fR_verb 0 0) = 22 then r_otherShape_513 (d + 1) σ2 18 else r_otherShape_513 (d + 1) σ2 19) = r_otherShape_513 (d + 1) σ2 s) → ((c_r_nameOfList d σ1).bind fun q24 => r_otherShape_513 d q24.2 s) = some q → ((c_r_nameOfList (d + 1) σ1).bind fun q24 => if (q24.2 fR_verb 0 0) = 21 then r_otherShape_513 (d + 1) q24.2 17 else if (q24.2 fR_verb 0 0) = 22 then r_otherShape_513 (d + 1) q24.2 18 else r_otherShape_513 (d + 1) q24.2 19) = some q := by
            intro s q hs hq'
            obtain ⟨E1, P1, J1, _, _, r1, _⟩ := H1
            obtain ⟨r2, σ2, τ2, c2, m2, P2, J2, f2, g2, R2, _⟩ := P_nol E1 P1 J1 ⟨by rw [r1.2.2]; exact Int.le_refl _, by rw [r1.2.2, r1.2.1]; exact Int.le_refl _⟩ (d := d) (by omega)
            have c2' : c_r_nameOfList (d + 1) σ1 = some (0, σ2) := am_mono c2 (by omega)
            rw [c2] at hq'
            simp only [Option.bind_some] at hq'
            rw [c2']
            simp only [Option.bind_some]
            rw [hs σ2 f2]
            exact go_mono hq' (by omega)
          rcases h3 with c21 | c22 | c30
          · refine lift (os_D H1 (d := d) (by omega) (c := 21) (s := 17) (l := [(2, 0), (1, 0), (0, 26), (1, 0)]) (X := fun σ2 => r_otherShape_513 d σ2 17) (by decide) (by decide) (by decide) (by decide) (by decide) (Or.inl rfl) ?_) ?_ ?_
            · intro σ2 f2 v σ4 ht hs
              show r_otherShape_513 d σ2 17 = _
              rw [e_r_otherShape_513, vf f2, c21, ht]
              simp only [Option.bind_some]
              rw [hs, if_pos rfl]
              rfl
            · intro q hx
              refine ups (s := 17) (fun σ2 f2 => ?_) hx
              rw [vf f2, c21, if_pos rfl]
            · rw [c21, show cdM 21 = 112 from rfl, e_m_others, if_pos rfl]
              rfl
          · refine lift (os_D H1 (d := d) (by omega) (c := 22) (s := 18) (l := [(0, 23), (1, 0), (0, 24), (1, 0)]) (X := fun σ2 => r_otherShape_513 d σ2 18) (by decide) (by decide) (by decide) (by decide) (by decide) (Or.inr rfl) ?_) ?_ ?_
            · intro σ2 f2 v σ4 ht hs
              show r_otherShape_513 d σ2 18 = _
              rw [e_r_otherShape_513, vf f2, c22, ht]
              simp only [Option.bind_some]
              rw [hs, if_neg (by decide), if_pos rfl]
              rfl
            · intro q hx
              refine ups (s := 18) (fun σ2 f2 => ?_) hx
              rw [vf f2, c22, if_neg (by decide), if_pos rfl]
            · rw [c22, show cdM 22 = 113 from rfl, e_m_others, if_neg (by decide), if_pos rfl]
              rfl
          · refine lift (os_19 H1 (d := d) (by omega) (by rw [v1]; exact c30)) ?_ ?_
            · intro q hx
              refine ups (s := 19) (fun σ2 f2 => ?_) hx
              rw [vf f2, c30, if_neg (by decide), if_neg (by decide)]
            · rw [c30]; rfl

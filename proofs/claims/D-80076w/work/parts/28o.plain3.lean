/-! the check of sort 15, where it is neither usual nor of values -/
section
variable {σ τ : ga_S} {f : Int} {N : Nat}
/-- whether a description may stand there -/
def plD (σ : ga_S) (nt : Bool) : List (Int × List Int) := if nt = false ∧ σ fR_verb 0 0 = 14 then dsA σ true false (-1) (σ fR_runFrom 0 0) (σ fR_runTo 0 0) else []
def plA (σ : ga_S) : Bool := decide (dS σ (nR σ 0) = 3 ∨ dS σ (nR σ 0) = 4)
theorem ck_15p (E : E0 σ τ f N) (hf : σ fR_fault 0 0 = 0) (hm : 2 * τ fM_runs 0 0 ≤ 5001) (hs : σ fR_sort 0 0 = 15) (ht : τ fM_sort 0 0 = 15) (H : vaH σ τ f) (hu : σ fR_usually 0 0 = 0) (hu' : τ fM_isUsually 0 0 = σ fR_usually 0 0) (nt : Bool) (hnt : σ fR_not 0 0 = b2i nt) (hnt' : τ fM_isNot 0 0 = b2i nt) (hbe : (σ fR_verb 0 0 = 13 ∧ τ fM_isAre 0 0 = 0) ∨ (σ fR_verb 0 0 = 14 ∧ τ fM_isAre 0 0 = 1)) (hV : ¬ (nt = false ∧ σ fR_names 0 0 = 1 ∧ 2 ≤ tyN σ (nN σ 0))) {d : Nat} (hd : 13 ≤ d) (first : Int) : ∃ σ' τ' c, c_r_check (d + 2) σ = some (0, σ') ∧ c_m_asked (d + 2) τ first = some (0, τ') ∧ KC σ σ' ∧ KM τ τ' ∧ FT σ' c ∧ GT τ' c ∧ fr ksL σ σ' ∧ fr (a0L ++ fM_how :: (ptM ++ adM ++ mbN)) τ τ' ∧ (c = 1000000 → (plA σ = false ∧ obAll σ ∧ (∃ P, plD σ nt = [P] ∧ rdOne σ' τ' P) ∧ σ' fR_isDescribed 0 0 = 1 ∧ τ' fM_how 0 0 = 3 ∧ σ' fR_isTyped 0 0 = 0) ∨ (plA σ = true ∧ plD σ nt = [] ∧ (∀ k, 0 ≤ k → k < σ fR_names 0 0 → dN σ (nN σ k) 2 ≠ -1 ∧ aC σ (nR σ 0) (σ fW_kindOf 0 (dN σ (nN σ k) 2)) nt false = 1) ∧ σ' fR_isDescribed 0 0 = 0 ∧ σ' fR_isTyped 0 0 = 0 ∧ σ' fR_isAdjectival 0 0 = 1 ∧ τ' fM_how 0 0 = 4)) := by
  obtain ⟨hn, ho, hn1, hl, hr, hwh, hr1, hrn, hC⟩ := H
  obtain ⟨K0, F0, O0, q0, S0, _, _, y8, y9, y10⟩ := k0_ok hf N
  obtain ⟨M0, G0, Q0, p0, T0, _⟩ := a0_ok σ τ f N
  have hLn := LST_n E hm hn ho
  have hn25 := hLn.1
  have hN5 := E.1.2.2.1
  have hB : ∀ k, 0 ≤ k → k < σ fR_names 0 0 → frB σ N (σ fR_nameFrom 0 k) (σ fR_nameTo 0 k) := fun k x y => (hLn.2.1 k x y).1.2.2.2
  have hRU : ∀ k, 0 ≤ k → k < σ fR_names 0 0 → RU σ τ f N k (σ fR_nameFrom 0 k) (σ fR_nameTo 0 k) := fun k x y => (hLn.2.1 k x y).1
  have R0 := hRU 0 (Int.le_refl _) (by omega)
  have Rr : RU σ τ f N (σ fR_names 0 0) (σ fR_runFrom 0 0) (σ fR_runTo 0 0) := by
    have := RU_of E.1 (hr 0 (Int.le_refl _) (by omega)) (by omega)
    rw [Int.add_zero] at this
    exact this
  have tR := frB_t Rr.2.2.2
  have kf := k0_fr σ
  have af := a0_fr τ
  have nt01 : ∀ b : Bool, b2i b = 0 ↔ b = false := fun b => by cases b <;> decide
  have eT : tyN σ (nmT σ (σ fR_nameFrom 0 0) (σ fR_nameTo 0 0)) = tyN σ (nN σ 0) := rfl
  have enm : nmT σ (σ fR_runFrom 0 0) (σ fR_runTo 0 0) = nR σ 0 := rfl
  -- the component, up to the words
  obtain ⟨σ1, a1, a2⟩ : ∃ σ1, c_r_checkPlain (d + 1) (k0 σ) = r_checkPlain_127 d σ1 (σ fR_runFrom 0 0) (σ fR_runTo 0 0) ∧ fr spL (k0 σ) σ1 := by
    rw [e_r_checkPlain, kf fR_usually (by decide), if_pos hu, kf fR_not (by decide), hnt, kf fR_names (by decide), kf fR_nameFrom (by decide), kf fR_nameTo (by decide), kf fR_runFrom (by decide), kf fR_runTo (by decide)]
    by_cases z : nt = false
    · rw [if_pos ((nt01 nt).mpr z)]
      by_cases y : σ fR_names 0 0 = 1
      · obtain ⟨σ1, x1, x2, x3⟩ := k_typeNamed E K0 R0.2.2.2 (d := d) (by omega)
        rw [if_pos y, x1, eT]
        simp only [Option.bind_some]
        rw [if_neg (fun w => hV ⟨z, y, by omega⟩)]
        exact ⟨σ1, rfl, x2⟩
      · rw [if_neg y]; exact ⟨_, rfl, fr_refl _ _⟩
    · rw [if_neg (fun w => z ((nt01 nt).mp w))]; exact ⟨_, rfl, fr_refl _ _⟩
  have K1 := KC_f K0 a2 (by decide)
  obtain ⟨σ2, b1, b2, b3⟩ := k_spell E K1 Rr.2.2.2 (d := d) (by omega)
  have K2 := KC_f K1 b2 (by decide)
  have so := k_sort E K2 b3 (d := d) (by omega)
  rw [enm] at so
  obtain ⟨ad, ead⟩ : ∃ x, x = plA σ := ⟨_, rfl⟩
  obtain ⟨σ3, e3⟩ : ∃ x, x = ga_up σ2 fR_isAdjectival 0 0 (b2i ad) := ⟨_, rfl⟩
  have f3 : fr [fR_isAdjectival] σ2 σ3 := by rw [e3]; exact fr_u (by decide)
  have K3 := KC_f K2 f3 (by decide)
  have f03 : fr (fR_isAdjectival :: spL) (k0 σ) σ3 := fr_trans (fr_sub a2 (by decide)) (fr_trans (fr_sub b2 (by decide)) (fr_sub f3 (by decide)))
  have F3 := FT_f F0 f03 (by decide)
  have C3 : ∀ G, G ∉ (fR_isAdjectival :: spL) → G ∉ k0L → σ3 G = σ G := fun G x y => (f03 G x).trans (kf G y)
  have C2 : ∀ G, G ∉ spL → G ∉ k0L → σ2 G = σ G := fun G x y => (b2 G x).trans ((a2 G x).trans (kf G y))
  have run164 : c_r_checkPlain (d + 1) (k0 σ) = r_checkPlain_164 d σ2 (σ fR_runFrom 0 0) (σ fR_runTo 0 0) (b2i ad) := by
    rw [a1, e_r_checkPlain_127, b1]
    simp only [Option.bind_some]
    rw [so, ead]
    simp only [Option.bind_some]
    unfold plA
    by_cases z3 : dS σ (nR σ 0) = 3
    · rw [if_pos z3, decide_eq_true (Or.inl z3), e_r_checkPlain_159]; rfl
    · rw [if_neg z3]
      by_cases z4 : dS σ (nR σ 0) = 4
      · rw [if_pos z4, decide_eq_true (Or.inr z4), e_r_checkPlain_159]; rfl
      · rw [if_neg z4, decide_eq_false (fun w => w.elim z3 z4)]; rfl
  obtain ⟨Ds, eDs⟩ : ∃ x, x = plD σ nt := ⟨_, rfl⟩
  rw [← ead, ← eDs]
  -- its description
  obtain ⟨T, σ4, c1, c2, c3, c4, c5, c6⟩ : ∃ T σ4, r_checkPlain_164 d σ2 (σ fR_runFrom 0 0) (σ fR_runTo 0 0) (b2i ad) = r_checkPlain_197 d σ4 (σ fR_runFrom 0 0) (σ fR_runTo 0 0) T ∧ fr dsF σ3 σ4 ∧ KC σ σ4 ∧ eq3 T Ds.length ∧ (∀ P, Ds = [P] → σ4 fR_describedKind 0 0 = P.1 ∧ σ4 fR_described 0 0 = (P.2.length : Int) ∧ ∀ i : Nat, i < P.2.length → rdR (σ4 fR_describedWhich 0 i) (σ4 fR_describedValue 0 i) (P.2.getD i 0)) ∧ σ4 fR_isAdjectival 0 0 = b2i ad := by
    have i3 : σ3 fR_isAdjectival 0 0 = b2i ad := by rw [e3, up_eq]
    rw [e_r_checkPlain_164, z1_ok _ (b2i_01 _), C2 fR_not (by decide) (by decide), hnt, C2 fR_verb (by decide) (by decide), ← e3]
    by_cases z : nt = false ∧ σ fR_verb 0 0 = 14
    · obtain ⟨T, σ4, x1, x2, _⟩ := k_description E Rr.2.2.2 true false (al := -1) (Or.inl rfl) K3 (d := d) (by omega)
      have x1' : c_r_description d σ3 (σ fR_runFrom 0 0) (σ fR_runTo 0 0) 1 0 (-1) = some (T, σ4) := x1
      have ed : Ds = dsA σ true false (-1) (σ fR_runFrom 0 0) (σ fR_runTo 0 0) := by rw [eDs]; unfold plD; rw [if_pos z]
      rw [← ed] at x2
      have T3 := x2.2.2.1
      rw [List.length_reverse] at T3
      rw [if_pos ((nt01 nt).mpr z.1), if_pos z.2, x1']
      refine ⟨T, σ4, rfl, x2.1, x2.2.1, T3, fun P hP => x2.2.2.2 P (by rw [hP]; rfl), by rw [x2.1 _ (by decide)]; exact i3⟩
    · have ed : Ds = [] := by rw [eDs]; unfold plD; rw [if_neg z]
      refine ⟨0, σ3, ?_, fr_refl _ _, K3, ?_, (fun P hP => by rw [ed] at hP; cases hP), i3⟩
      · by_cases y : nt = false
        · rw [if_pos ((nt01 nt).mpr y), if_neg (fun w => z ⟨y, w⟩), e_r_checkPlain_196]
        · rw [if_neg (fun w => y ((nt01 nt).mp w)), e_r_checkPlain_196]
      · rw [ed]; unfold eq3; simp
  have F4 := FT_f F3 c2 (by decide)
  have f04 : fr (fR_isAdjectival :: dsF) (k0 σ) σ4 := fr_trans (fr_sub f03 (by decide)) (fr_sub c2 (by decide))
  have C4 : ∀ G, G ∉ (fR_isAdjectival :: dsF) → G ∉ k0L → σ4 G = σ G := fun G x y => (f04 G x).trans (kf G y)
  -- the model, up to its readings
  have run219 : c_m_askFifteen (d + 1) (a0 τ) = m_askFifteen_219 d (a0 τ) 0 (f + σ fR_runFrom 0 0) := by
    rw [e_m_askFifteen, af fM_what (by decide), hwh, ck_ok _ Rr.1, af fM_isUsually (by decide), hu', if_pos hu, af fM_listSize (by decide), hl.2, af fM_listFrom (by decide), hl.1, af fM_runFrom (by decide), Rr.2.1]
    have s140 : ∀ s0, ¬ (nt = false ∧ 1 < s0) → m_askFifteen_140 d (a0 τ) 0 (f + σ fR_runFrom 0 0) s0 = m_askFifteen_219 d (a0 τ) 0 (f + σ fR_runFrom 0 0) := by
      intro s0 h
      rw [e_m_askFifteen_140, af fM_sort (by decide), ht, if_neg (by decide), af fM_isNot (by decide), hnt']
      by_cases z : 1 < s0
      · rw [if_pos z, if_neg (fun w => h ⟨(nt01 nt).mp w, z⟩)]
      · rw [if_neg z]
    by_cases y : σ fR_names 0 0 = 1
    · rw [if_pos y, m_typeOrPlural E M0 R0 (by omega), eT]
      simp only [Option.bind_some]
      exact s140 _ (fun w => hV ⟨w.1, y, by omega⟩)
    · rw [if_neg y]
      exact s140 _ (fun w => by omega)
  have run269 : m_askFifteen_219 d (a0 τ) 0 (f + σ fR_runFrom 0 0) = m_askFifteen_269 d (a0 τ) 0 (f + σ fR_runFrom 0 0) (b2i ad) := by
    obtain ⟨k', x1, x2, x3⟩ := m_mean E M0 Rr.2.2.2 Rr.2.1 Rr.2.2.1 (d := d) (by omega)
    rw [Rr.2.1, Rr.2.2.1] at x1
    rw [enm] at x2 x3
    rw [e_m_askFifteen_219, af fM_what (by decide), hwh, ck_ok _ Rr.1, af fM_runSize (by decide), Rr.2.2.1, x1, ead]
    simp only [Option.bind_some]
    unfold plA dS
    by_cases z : fnd σ (nR σ 0) 0 = -1
    · rw [if_pos (x2 z), if_pos z, decide_eq_false (by decide), e_m_askFifteen_268]; rfl
    · have t := x3 z
      rw [if_neg (by omega), if_neg z, ck_ok _ (by omega), t.2.2.1]
      by_cases z3 : σ fD_sorts 0 (fnd σ (nR σ 0) 0) = 3
      · rw [if_pos ((sM_5 _ _).mpr z3), decide_eq_true (Or.inl z3), e_m_askFifteen_264]; rfl
      · rw [if_neg (fun w => z3 ((sM_5 _ _).mp w)), ck_ok _ (by omega)]
        by_cases z4 : σ fD_sorts 0 (fnd σ (nR σ 0) 0) = 4
        · rw [if_pos ((sM_6 _ _).mpr z4), decide_eq_true (Or.inr z4), e_m_askFifteen_264]; rfl
        · rw [if_neg (fun w => z4 ((sM_6 _ _).mp w)), decide_eq_false (fun w => w.elim z3 z4), e_m_askFifteen_268]; rfl
  obtain ⟨τ1, g1⟩ : ∃ x, x = ga_up (a0 τ) fM_readings 0 0 0 := ⟨_, rfl⟩
  have h1 : fr [fM_readings] (a0 τ) τ1 := by rw [g1]; exact fr_u (by decide)
  have M1 := KM_f M0 h1 (by decide)
  obtain ⟨τ2, m1, m2, m3, m4, m5⟩ : ∃ τ2, m_askFifteen_269 d (a0 τ) 0 (f + σ fR_runFrom 0 0) (b2i ad) = m_askFifteen_307 d τ2 0 (f + σ fR_runFrom 0 0) (b2i ad) ∧ fr ptM τ1 τ2 ∧ KM τ τ2 ∧ τ2 fM_readings 0 0 = (Ds.length : Int) ∧ (∀ P, Ds = [P] → τ2 fM_readKind 0 0 = P.1 ∧ τ2 fM_readCount 0 0 = (P.2.length : Int) ∧ ∀ i : Nat, i < P.2.length → τ2 fM_readAdjective 0 i = P.2.getD i 0) := by
    have r1 : τ1 fM_readings 0 0 = 0 := by rw [g1, up_eq]
    rw [e_m_askFifteen_269, af fM_isAre (by decide), af fM_isNot (by decide), hnt', ← g1]
    by_cases z : nt = false ∧ σ fR_verb 0 0 = 14
    · have ed : Ds = dsA σ true false (-1) (σ fR_runFrom 0 0) (σ fR_runTo 0 0) := by rw [eDs]; unfold plD; rw [if_pos z]
      obtain ⟨τ2, x1, x2⟩ := m_describe E Rr.2.2.2 (t := f + σ fR_runFrom 0 0) (n := σ fR_runTo 0 0 - σ fR_runFrom 0 0) rfl rfl true false (al := -1) M1 r1 (d := d) (by omega)
      have x1' : c_m_describe d τ1 (f + σ fR_runFrom 0 0) (σ fR_runTo 0 0 - σ fR_runFrom 0 0) 1 0 (-1) = some (0, τ2) := x1
      rw [← ed] at x2
      have ar : τ fM_isAre 0 0 = 1 := by
        rcases hbe with w | w
        · omega
        · exact w.2
      rw [ar, if_neg (by decide), if_pos ((nt01 nt).mpr z.1), af fM_what (by decide), hwh, ck_ok _ Rr.1, af fM_runSize (by decide), Rr.2.2.1, x1']
      refine ⟨τ2, rfl, x2.1, x2.2.1, by rw [x2.2.2.1, r1, Int.zero_add], fun P hP => x2.2.2.2.2 r1 P [] hP⟩
    · have ed : Ds = [] := by rw [eDs]; unfold plD; rw [if_neg z]
      refine ⟨τ1, ?_, fr_refl _ _, M1, by rw [r1, ed]; rfl, fun P hP => by rw [ed] at hP; cases hP⟩
      rcases hbe with w | w
      · rw [w.2, if_pos rfl]
      · rw [w.2, if_neg (by decide), if_neg (fun v => z ⟨(nt01 nt).mp v, w.1⟩)]
  have G2 := GT_f (GT_f G0 h1 (by decide)) m2 (by decide)
  have fr2 : fr (a0L ++ fM_how :: (ptM ++ adM ++ mbN)) τ τ2 := fr_trans (fr_sub af (by decide)) (fr_trans (fr_sub h1 (by decide)) (fr_sub m2 (by decide)))
  have run307 : c_m_askFifteen (d + 1) (a0 τ) = m_askFifteen_319 d τ2 0 (f + σ fR_runFrom 0 0) (b2i ad) (if 0 < (Ds.length : Int) then 1 else 0) := by
    rw [run219, run269, m1, e_m_askFifteen_307, m4, if_app (m_askFifteen_319 d τ2 0 (f + σ fR_runFrom 0 0) (b2i ad))]
  have c4' := c4
  unfold eq3 at c4'
  have T0' : 0 < T ↔ 0 < (Ds.length : Int) := by omega
  by_cases cA : 0 < T ∧ ad = false
  · -- described
    obtain ⟨z1, z2⟩ := cA
    obtain ⟨σ5, x1, x2, x3, x4⟩ := k_needDescription E c3 F4 tR T (d := d) (by omega)
    rw [cnC_eq c4] at x4
    obtain ⟨X, eX⟩ : ∃ x, x = min 1000000 (cnC σ (σ fR_runFrom 0 0) (Ds.length : Int)) := ⟨_, rfl⟩
    rw [← eX] at x4
    obtain ⟨σ6, e6⟩ : ∃ x, x = ga_up σ5 fR_isDescribed 0 0 1 := ⟨_, rfl⟩
    have f6 : fr [fR_isDescribed] σ5 σ6 := by rw [e6]; exact fr_u (by decide)
    have f46 : fr (fR_isDescribed :: ntL) σ4 σ6 := fr_trans (fr_sub x2 (by decide)) (fr_sub f6 (by decide))
    have C6 : ∀ G, G ∉ (fR_isDescribed :: ntL) → G ∉ (fR_isAdjectival :: dsF) → G ∉ k0L → σ6 G = σ G := fun G w x y => (f46 G w).trans (C4 G x y)
    obtain ⟨τ3, g3⟩ : ∃ x, x = ga_up τ2 fM_how 0 0 3 := ⟨_, rfl⟩
    have h3 : fr [fM_how] τ2 τ3 := by rw [g3]; exact fr_u (by decide)
    obtain ⟨σ7, τ7, c, u1, u2, u3, u4, u5, u6, u7, u8, u9⟩ := obs_all E (by omega) hLn hl (KC_f x3 f6 (by decide)) (KM_f m3 h3 (by decide)) (FT_f x4 f6 (by decide)) (GT_f G2 h3 (by decide)) (by rw [f46 _ (by decide), f04 _ (by decide)]; exact q0) (by rw [h3 _ (by decide), m2 _ (by decide), h1 _ (by decide)]; exact p0) (C6 _ (by decide) (by decide) (by decide)) (C6 _ (by decide) (by decide) (by decide)) (d := d) (d' := d) (by omega) (by omega)
    have rd7 : τ7 fM_readings 0 0 = (Ds.length : Int) := by rw [u4 _ (by decide), h3 _ (by decide)]; exact m4
    obtain ⟨τ8, v1, v2, v3, v4⟩ := m_oneReading E u6 u8 tR (t := f + σ fR_runFrom 0 0) rfl (by rw [rd7]; omega) (d := d) (by omega)
    rw [rd7] at v4
    have lec := GT_le u8
    have v4' : GT τ8 (min X c) := by
      rw [show min X c = min c (cnC σ (σ fR_runFrom 0 0) (Ds.length : Int)) by omega]; exact v4
    refine ⟨σ7, τ8, min X c, ck_15_C hs ?_, ck_15_M ht ?_, u5, v3, u7, v4', (fr_trans (fr_sub kf (by decide)) (fr_trans (fr_sub f04 (by decide)) (fr_trans (fr_sub f46 (by decide)) (fr_sub u3 (by decide))))), fr_trans fr2 (fr_trans (fr_sub h3 (by decide)) (fr_trans (fr_sub u4 (by decide)) (fr_sub v2 (by decide)))), fun y => Or.inl ?_⟩
    · rw [run164, c1, e_r_checkPlain_197, if_pos z1, c6, z2, if_pos b2i_f, x1]
      simp only [Option.bind_some]
      rw [← e6, x2 fR_names (by decide), C4 fR_names (by decide) (by decide), u1]
      rfl
    · rw [run307, if_pos (T0'.mp z1), e_m_askFifteen_319, if_neg (by decide), z2, if_pos b2i_f, e_m_askFifteen_337, if_pos rfl, ← g3, u2]
      simp only [Option.bind_some]
      rw [v1]
      rfl
    · have yX : X = 1000000 ∧ c = 1000000 := by omega
      have l1 := cnC_u E tR (T := (Ds.length : Int)) (by omega)
      obtain ⟨P, hP⟩ := List.length_eq_one_iff.mp (show Ds.length = 1 by omega)
      have dk := c5 P hP
      have mk := m5 P hP
      refine ⟨z2, u9 yX.2, ⟨P, hP, ?_⟩, ?_, ?_, by rw [u3 _ (by decide), f46 _ (by decide), f04 _ (by decide)]; exact k0_ty σ⟩
      · refine ⟨?_, ?_, fun i hi => ?_, ?_, ?_, fun i hi => ?_⟩
        · rw [u3 _ (by decide), f46 _ (by decide)]; exact dk.1
        · rw [u3 _ (by decide), f46 _ (by decide)]; exact dk.2.1
        · rw [u3 _ (by decide), f46 _ (by decide), u3 _ (by decide), f46 _ (by decide)]; exact dk.2.2 i hi
        · rw [v2 _ (by decide), u4 _ (by decide), h3 _ (by decide)]; exact mk.1
        · rw [v2 _ (by decide), u4 _ (by decide), h3 _ (by decide)]; exact mk.2.1
        · rw [v2 _ (by decide), u4 _ (by decide), h3 _ (by decide)]; exact mk.2.2 i hi
      · rw [u3 _ (by decide), e6, up_eq]
      · rw [v2 _ (by decide), u4 _ (by decide), g3, up_eq]
  · -- not described
    obtain ⟨e, rfl⟩ : ∃ e, d = e + 1 := ⟨d - 1, by omega⟩
    obtain ⟨σ5, x1, x2, x3, x4⟩ := k_objs0 E hn25 hB (d := e) (by omega) 0 0 (Int.le_refl _) (by omega) σ4 1000000 c3 F4 ⟨C4 _ (by decide) (by decide), C4 _ (by decide) (by decide)⟩
    have C5 : ∀ G, G ∉ ndL → G ∉ (fR_isAdjectival :: dsF) → G ∉ k0L → σ5 G = σ G := fun G w x y => (x2 G w).trans (C4 G x y)
    have i5 : σ5 fR_isAdjectival 0 0 = b2i ad := by rw [x2 _ (by decide)]; exact c6
    obtain ⟨τ3, g3⟩ : ∃ x, x = ga_up τ2 fM_how 0 0 4 := ⟨_, rfl⟩
    have h3 : fr [fM_how] τ2 τ3 := by rw [g3]; exact fr_u (by decide)
    obtain ⟨v6, ev6⟩ : ∃ x : Int, x = if 0 < (Ds.length : Int) then 1 else 0 := ⟨_, rfl⟩
    rw [← ev6] at run307
    obtain ⟨τ4, u1, u2, u3, u4⟩ := m_objs0 E hn25 hRU hl.2 (d := e + 1) (by omega) (f + σ fR_runFrom 0 0) (b2i ad) v6 0 (Int.le_refl _) (by omega) τ3 1000000 (KM_f m3 h3 (by decide)) (GT_f G2 h3 (by decide))
    have fr4 : fr (a0L ++ fM_how :: (ptM ++ adM ++ mbN)) τ τ4 := fr_trans fr2 (fr_trans (fr_sub h3 (by decide)) (fr_sub u2 (by decide)))
    have how4 : τ4 fM_how 0 0 = 4 := by rw [u2 _ (by decide), g3, up_eq]
    obtain ⟨c0, ec0⟩ : ∃ x, x = min 1000000 (miN (obG σ) 0 (σ fR_names 0 0)) := ⟨_, rfl⟩
    rw [← ec0] at x4 u4
    have runC : c_r_checkPlain (e + 1 + 1) (k0 σ) = (if ad = false then (c_r_note (e + 1) σ5 4 (σ fR_runFrom 0 0)).bind (fun q14 => some (0, q14.2)) else if 0 < T then (c_r_note (e + 1) σ5 7 (σ fR_runFrom 0 0)).bind (fun q13 => some (0, q13.2)) else r_checkPlain_272 (e + 1) σ5 (σ fR_runFrom 0 0) (σ fR_runTo 0 0) 0) := by
      have s233 : r_checkPlain_233 (e + 1) σ4 (σ fR_runFrom 0 0) (σ fR_runTo 0 0) T = (if ad = false then (c_r_note (e + 1) σ5 4 (σ fR_runFrom 0 0)).bind (fun q14 => some (0, q14.2)) else if 0 < T then (c_r_note (e + 1) σ5 7 (σ fR_runFrom 0 0)).bind (fun q13 => some (0, q13.2)) else r_checkPlain_272 (e + 1) σ5 (σ fR_runFrom 0 0) (σ fR_runTo 0 0) 0) := by
        rw [e_r_checkPlain_233, C4 fR_names (by decide) (by decide), e_r_objectsOrNew, x1]
        simp only [Option.bind_some]
        rw [i5]
        cases ad with
        | false => rw [if_pos b2i_f, if_pos rfl]
        | true => rw [if_neg b2i_n, if_neg (show ¬ (true = false) by decide)]
      rw [run164, c1, e_r_checkPlain_197, c6]
      by_cases z1 : 0 < T
      · have za : ad = true := by
          cases ad with
          | true => rfl
          | false => exact absurd ⟨z1, rfl⟩ cA
        rw [if_pos z1, za, if_neg b2i_n]
        rw [za] at s233
        exact s233
      · rw [if_neg z1]; exact s233
    have runM : c_m_askFifteen (e + 1 + 1) (a0 τ) = (if v6 = 0 then (c_m_need (e + 1) τ4 (b2i ad) 4 (f + σ fR_runFrom 0 0)).bind (fun q15 => m_askFifteen_432 (e + 1) q15.2 0 (f + σ fR_runFrom 0 0) (b2i ad) 0) else (c_m_note (e + 1) τ4 7 (f + σ fR_runFrom 0 0)).bind (fun q16 => some (0, q16.2))) := by
      have s336 : m_askFifteen_336 (e + 1) τ2 0 (f + σ fR_runFrom 0 0) (b2i ad) v6 = (if v6 = 0 then (c_m_need (e + 1) τ4 (b2i ad) 4 (f + σ fR_runFrom 0 0)).bind (fun q15 => m_askFifteen_432 (e + 1) q15.2 0 (f + σ fR_runFrom 0 0) (b2i ad) 0) else (c_m_note (e + 1) τ4 7 (f + σ fR_runFrom 0 0)).bind (fun q16 => some (0, q16.2))) := by
        rw [e_m_askFifteen_336, e_m_askFifteen_337, if_neg (by decide), ← g3, u1, e_m_askFifteen_361, u3 fM_listSize (by decide), hl.2, if_neg (Int.lt_irrefl _)]
      rw [run307, e_m_askFifteen_319]
      by_cases z1 : v6 = 0
      · rw [if_pos z1]; exact s336
      · have z2 : 0 < (Ds.length : Int) := by
          refine Classical.byContradiction fun w => ?_
          rw [if_neg w] at ev6
          exact z1 ev6
        have za : ad = true := by
          cases ad with
          | true => rfl
          | false => exact absurd ⟨T0'.mpr z2, rfl⟩ cA
        rw [if_neg z1]
        rw [za] at s336 ⊢
        rw [if_neg b2i_n]
        exact s336
    cases had : ad with
    | false =>
      have nT : ¬ 0 < T := fun w => cA ⟨w, had⟩
      have v60 : v6 = 0 := by rw [ev6, if_neg (fun w => nT (T0'.mpr w))]
      rw [had] at runC runM
      rw [if_pos rfl] at runC
      rw [if_pos v60] at runM
      obtain ⟨σ6, w1, w2, w3⟩ := k_note E.2.1 hN5 x3 x4 (t := σ fR_runFrom 0 0) (r := 2) (why := 4) tR (by omega) (by decide) (d := e + 1) (by omega)
      obtain ⟨τ6, y1, y2, y3, y4⟩ := m_need E u3 u4 (t := σ fR_runFrom 0 0) (t' := f + σ fR_runFrom 0 0) (r := 2) (why := 4) (g := b2i false) tR rfl (by omega) (by decide) (d := e + 1) (by omega)
      rw [if_pos b2i_f] at y4
      have cr := cd_r E.2.1 tR (r := 2) (by omega)
      refine ⟨σ6, τ6, _, ck_15_C hs (by rw [runC, w1]; rfl), ck_15_M ht ?_, KC_f x3 w2 (by decide), y3, w3, y4, (fr_trans (fr_sub kf (by decide)) (fr_trans (fr_sub f04 (by decide)) (fr_trans (fr_sub x2 (by decide)) (fr_sub w2 (by decide))))), fr_trans fr4 (fr_sub y2 (by decide)), fun z => by omega⟩
      rw [runM, y1]
      simp only [Option.bind_some]
      rw [e_m_askFifteen_432, y3 fM_listSize (by decide), hl.2, if_pos (by omega), if_pos b2i_f]
    | true =>
      rw [had] at runC runM
      rw [if_neg (by decide)] at runC
      by_cases z1 : 0 < T
      · have v61 : v6 ≠ 0 := by rw [ev6, if_pos (T0'.mp z1)]; decide
        rw [if_pos z1] at runC
        rw [if_neg v61] at runM
        obtain ⟨σ6, w1, w2, w3⟩ := k_note E.2.1 hN5 x3 x4 (t := σ fR_runFrom 0 0) (r := 3) (why := 7) tR (by omega) (by decide) (d := e + 1) (by omega)
        obtain ⟨τ6, y1, y2, y3⟩ := m_note E.2.1 ⟨E.1.1, E.1.2.1⟩ u3 u4 (t := σ fR_runFrom 0 0) (t' := f + σ fR_runFrom 0 0) (r := 3) (why := 7) tR rfl (by omega) (by decide) (d := e + 1) (by omega)
        have cr := cd_r E.2.1 tR (r := 3) (by omega)
        exact ⟨σ6, τ6, _, ck_15_C hs (by rw [runC, w1]; rfl), ck_15_M ht (by rw [runM, y1]; rfl), KC_f x3 w2 (by decide), KM_f u3 y2 (by decide), w3, y3, (fr_trans (fr_sub kf (by decide)) (fr_trans (fr_sub f04 (by decide)) (fr_trans (fr_sub x2 (by decide)) (fr_sub w2 (by decide))))), fr_trans fr4 (fr_sub y2 (by decide)), fun z => by omega⟩
      · have v60 : v6 = 0 := by rw [ev6, if_neg (fun w => z1 (T0'.mpr w))]
        rw [if_neg z1] at runC
        rw [if_pos v60] at runM
        obtain ⟨σ6, w1, w2, w3, w4⟩ := k_adjs E hn25 hB Rr.2.2.2 hnt rfl (d := e + 1) (by omega) 0 (Int.le_refl _) (by omega) σ5 c0 x3 x4 ⟨C5 _ (by decide) (by decide) (by decide), C5 _ (by decide) (by decide) (by decide), C5 _ (by decide) (by decide) (by decide), C5 _ (by decide) (by decide) (by decide)⟩
        obtain ⟨τ5, o1, o2, o3, o4⟩ := m_need E u3 u4 (t := σ fR_runFrom 0 0) (t' := f + σ fR_runFrom 0 0) (r := 2) (why := 4) (g := b2i true) tR rfl (by omega) (by decide) (d := e + 1) (by omega)
        rw [if_neg b2i_n, Int.min_eq_left (GT_le u4)] at o4
        obtain ⟨τ6, y1, y2, y3, y4⟩ := m_adjs E hn25 hRU hl.2 hwh Rr hnt' (d := e + 1) (by omega) 0 (Int.le_refl _) (by omega) τ5 c0 o3 o4
        refine ⟨σ6, τ6, _, ck_15_C hs (by rw [runC, w1]), ck_15_M ht ?_, w3, y3, w4, y4, (fr_trans (fr_sub kf (by decide)) (fr_trans (fr_sub f04 (by decide)) (fr_trans (fr_sub x2 (by decide)) (fr_sub w2 (by decide))))), fr_trans fr4 (fr_trans (fr_sub o2 (by decide)) (fr_sub y2 (by decide))), fun z => Or.inr ⟨rfl, ?_, fun k k0' k1 => ?_, ?_, ?_, ?_, ?_⟩⟩
        · rw [runM, o1]
          simp only [Option.bind_some]
          exact y1
        · exact List.length_eq_zero_iff.mp (by omega)
        · have q1 := no_min rfl z (FT_le x4)
          have q2 := miN_1 0 (show 1000000 ≤ miN (obG σ) 0 (σ fR_names 0 0) by omega) k k0' k1
          have q3 := miN_1 0 q1.2 k k0' k1
          have tk := frB_t (hB k k0' k1)
          have cr := cd_r E.2.1 tk (r := 2) (by omega)
          unfold obG at q2
          have on : dN σ (nN σ k) 2 ≠ -1 := by
            intro w
            rw [if_pos w] at q2
            omega
          unfold adG at q3
          rw [if_neg on] at q3
          exact ⟨on, cnC_u E tR q3⟩
        · rw [w2 _ (by decide), x2 _ (by decide), f04 _ (by decide)]; exact y8
        · rw [w2 _ (by decide), x2 _ (by decide), f04 _ (by decide)]; exact y9
        · rw [w2 _ (by decide), i5, had]; rfl
        · rw [y2 _ (by decide), o2 _ (by decide)]; exact how4
end

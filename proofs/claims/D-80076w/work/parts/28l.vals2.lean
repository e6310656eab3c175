/-! new values, both sides -/
/-- what is known of a list, be, and runs -/
def vaH (σ τ : ga_S) (f : Int) : Prop := (∀ k, 0 ≤ k → k < σ fR_names 0 0 → nn σ τ f k k) ∧ oN σ ∧ 1 ≤ σ fR_names 0 0 ∧ (τ fM_listFrom 0 0 = 0 ∧ τ fM_listSize 0 0 = σ fR_names 0 0) ∧ (∀ i, 0 ≤ i → i < σ fR_runs 0 0 → rr σ τ f i (σ fR_names 0 0 + i)) ∧ τ fM_what 0 0 = σ fR_names 0 0 ∧ 1 ≤ σ fR_runs 0 0 ∧ τ fM_runs 0 0 = σ fR_names 0 0 + σ fR_runs 0 0 ∧ oC σ
section
variable {σ τ : ga_S} {f : Int} {N : Nat}
theorem vals_ck (E : E0 σ τ f N) (hf : σ fR_fault 0 0 = 0) (hm : 2 * τ fM_runs 0 0 ≤ 5001) (H : vaH σ τ f) (hp : (σ fR_names 0 0 = 1 ∧ 2 ≤ tyN σ (nN σ 0)) ∨ ∃ p, (∀ k, 0 ≤ k → k < σ fR_names 0 0 → σ fR_nameTo 0 k ≤ p) ∧ p ≤ σ fR_runFrom 0 0) {σ1 : ga_S} (f1 : fr spL (k0 σ) σ1) {v : Int} (hv : v = if σ fR_names 0 0 = 1 then tyN σ (nN σ 0) else -1) {d : Nat} (hd : 7 ≤ d) : ∃ σ' τ' c, c_r_checkValues (d + 1) σ1 = some (0, σ') ∧ m_askFifteen_162 d (a0 τ) 0 v = some (0, τ') ∧ KC σ σ' ∧ KM τ τ' ∧ FT σ' c ∧ GT τ' c ∧ fr (vaL ++ spL ++ ndL) σ1 σ' ∧ fr (fM_how :: mbN) (a0 τ) τ' ∧ (c = 1000000 → σ fR_names 0 0 = 1 ∧ 2 ≤ tyN σ (nN σ 0) ∧ tyN σ (nN σ 0) < σ fW_types 0 0 ∧ σ' fR_kind0 0 0 = tyN σ (nN σ 0) ∧ σ' fR_isTyped 0 0 = 1 ∧ τ' fM_how 0 0 = 2 ∧ ∀ j, 0 ≤ j → j < σ fR_runs 0 0 → nB σ (wC σ j) ((rg 0 j).map (wC σ)) = true ∧ σ fW_typeValues 0 (tyN σ (nN σ 0)) + j < 8) := by
  obtain ⟨hn, ho, hn1, hl, hr, hwh, hr1, hrn, hC⟩ := H
  obtain ⟨K0, F0, O0, q0, S0, _⟩ := k0_ok hf N
  obtain ⟨M0, G0, Q0, p0, T0, _⟩ := a0_ok σ τ f N
  have hL := LST_r E hm hr (by omega) hC
  have hn25 := hL.1
  have hLn := LST_n E hm hn ho
  have hN5 := E.1.2.2.1
  have R0 : RU σ τ f N 0 (σ fR_nameFrom 0 0) (σ fR_nameTo 0 0) := (hLn.2.1 0 (Int.le_refl _) (by omega)).1
  have tR0 := frB_t R0.2.2.2
  obtain ⟨T, eT⟩ : ∃ x, x = tyN σ (nN σ 0) := ⟨_, rfl⟩
  have eT' : tyN σ (nmT σ (σ fR_nameFrom 0 0) (σ fR_nameTo 0 0)) = T := eT.symm
  have rT := tyN_r E (nN σ 0)
  have wt := e0_t E
  have wt2 := wt.2.1
  rw [← eT] at rT hp hv ⊢
  have kf := k0_fr σ
  have af := a0_fr τ
  have F1 : ∀ G, G ∉ spL → G ∉ k0L → σ1 G = σ G := fun G x y => (f1 G x).trans (kf G y)
  -- the component, up to the loop
  obtain ⟨σ2, e2⟩ : ∃ x, x = ga_up σ1 fR_isTyped 0 0 1 := ⟨_, rfl⟩
  have f2 : fr [fR_isTyped] σ1 σ2 := by rw [e2]; exact fr_u (by decide)
  have K1 := KC_f K0 f1 (by decide)
  have K2 := KC_f K1 f2 (by decide)
  obtain ⟨σ3, a1, a2, a3⟩ := k_typeNamed E K2 R0.2.2.2 (d := d) (by omega)
  rw [eT'] at a1
  have f13 : fr (fR_isTyped :: spL) σ1 σ3 := fr_trans (fr_sub f2 (by decide)) (fr_sub a2 (by decide))
  have f03 : fr [fR_isTyped, fR_kind0, fD_size, fD_spelled] (k0 σ) σ3 := fr_trans (fr_sub f1 (by decide)) (fr_sub f13 (by decide))
  have F3 := FT_f F0 f03 (by decide)
  have run0 : c_r_checkValues (d + 1) σ1 = if T < 2 then (c_r_note d (ga_up σ3 fR_kind0 0 0 T) 4 (σ fR_nameFrom 0 0)).bind (fun q2 => r_checkValues_49 d (ga_up q2.2 fR_kind0 0 0 (-1))) else r_checkValues_49 d (ga_up σ3 fR_kind0 0 0 T) := by
    rw [e_r_checkValues, ← e2, F1 fR_nameFrom (by decide) (by decide), F1 fR_nameTo (by decide) (by decide), a1]
    simp only [Option.bind_some]
    rw [a2 fR_nameFrom (by decide), f2 fR_nameFrom (by decide), F1 fR_nameFrom (by decide) (by decide)]
  -- the model, up to the loop
  obtain ⟨τ1, g1⟩ : ∃ x, x = ga_up (a0 τ) fM_how 0 0 2 := ⟨_, rfl⟩
  have h1 : fr [fM_how] (a0 τ) τ1 := by rw [g1]; exact fr_u (by decide)
  have M1 := KM_f M0 h1 (by decide)
  have M1' : ∀ G, G ∉ ckM → τ1 G = τ G := M1
  have tp := m_typeOrPlural E M1 R0 (d := d) (by omega)
  rw [eT'] at tp
  obtain ⟨τ2, u1, u2, u3, u4⟩ := m_need E M1 (GT_f G0 h1 (by decide)) (t := σ fR_nameFrom 0 0) (t' := f + σ fR_nameFrom 0 0) (r := 2) (why := 4) (g := if 1 < T then 1 else 0) tR0 rfl (by omega) (by decide) (d := d) (by omega)
  have run1 : m_askFifteen_162 d (a0 τ) 0 v = if 1 < σ fR_names 0 0 then ga_ck 1 2600 ((c_m_note d τ2 4 (τ fM_runFrom 0 1)).bind (fun q9 => m_askFifteen_213 d q9.2 v)) else m_askFifteen_213 d τ2 v := by
    have R0f : τ fM_runFrom 0 0 = f + σ fR_nameFrom 0 0 := R0.2.1
    rw [e_m_askFifteen_162, ← g1, tp]
    simp only [Option.bind_some]
    rw [if_app (m_askFifteen_182 d τ1 0 v), e_m_askFifteen_182, ck_ok _ (by omega), M1' fM_runFrom (by decide), R0f, u1]
    simp only [Option.bind_some]
    rw [u3 fM_listSize (by decide), hl.2, u3 fM_runFrom (by decide), show w32 ((0 : Int) + 1) = 1 from by decide]
  have h02 : fr (fM_how :: mbN) (a0 τ) τ2 := fr_trans (fr_sub h1 (by decide)) (fr_sub u2 (by decide))
  obtain ⟨d', rfl⟩ : ∃ e, d = e + 1 := ⟨d - 1, by omega⟩
  have val213 : ∀ ρ, (∀ G, G ∉ ckM → ρ G = τ G) → m_askFifteen_213 (d' + 1) ρ v = (m_askValues_41 d' ρ v (cntV σ v) (σ fR_names 0 0)).bind (fun q => some (0, q.2)) := by
    intro ρ hρ
    have wv := e0_v E
    rw [e_m_askFifteen_213, e_m_askValues, m_count E hρ 0 (Int.le_refl _) wv.1 0 (Int.le_refl _) (Int.le_refl _), Int.zero_add, hwh]
    rfl
  have cv : 0 ≤ cntV σ v ∧ cntV σ v ≤ 64 := by
    have wv := e0_v E
    have l := List.length_filter_le (fun x => decide (σ fW_valueTypes 0 x = v)) (rg 0 (σ fW_values 0 0))
    have l2 := rg_len (n := σ fW_values 0 0) 0
    rw [if_pos wv.1] at l2
    have w2 := wv.2.1
    unfold cntV
    omega
  by_cases good : σ fR_names 0 0 = 1 ∧ 2 ≤ T
  · -- no note ahead
    have vT : v = T := by rw [hv, if_pos good.1]
    obtain ⟨σ4, e4⟩ : ∃ x, x = ga_up σ3 fR_kind0 0 0 T := ⟨_, rfl⟩
    have f4 : fr [fR_kind0] σ3 σ4 := by rw [e4]; exact fr_u (by decide)
    have f04 : fr [fR_isTyped, fR_kind0, fD_size, fD_spelled] (k0 σ) σ4 := fr_trans f03 (fr_sub f4 (by decide))
    have k4 : σ4 fR_kind0 0 0 = T := by rw [e4, up_eq]
    have i4 : σ4 fR_isTyped 0 0 = 1 := by rw [f4 _ (by decide), a2 _ (by decide), e2, up_eq]
    have u4' : GT τ2 1000000 := by
      rw [if_pos (show 1 < T by omega), if_neg (by decide)] at u4
      exact u4
    obtain ⟨base, eb⟩ : ∃ x, x = σ fW_typeValues 0 T := ⟨_, rfl⟩
    have ebc : base = cntV σ v := by rw [eb, vT]; exact wt.2.2.2 T (by omega) (by omega)
    have hb : 0 ≤ base ∧ base ≤ 64 := by rw [ebc]; exact cv
    have L0 : LSq σ τ f N (fun k => σ fR_runFrom 0 k) (fun k => σ fR_runTo 0 k) base 8 σ4 τ2 1000000 0 base := by
      have S2 : nwC σ σ4 = [] := by rw [← S0]; unfold nwC; rw [f04 _ (by decide), f04 _ (by decide), f04 _ (by decide)]
      have T2 : nwM σ τ f τ2 = [] := by rw [← T0]; unfold nwM; rw [u2 _ (by decide), u2 _ (by decide), h1 _ (by decide), h1 _ (by decide)]
      refine ⟨KC_f K0 f04 (by decide), u3, FT_f F0 f04 (by decide), u4', ?_, ?_, ?_, ?_, ?_, ?_, Or.inl (by omega), by omega, fun _ j j0 j1 => by omega⟩
      · unfold nwO; rw [f04 _ (by decide), f04 _ (by decide), f04 _ (by decide)]; exact O0
      · unfold nwQ; rw [u2 _ (by decide), u2 _ (by decide), h1 _ (by decide), h1 _ (by decide)]; exact Q0
      · rw [S2, T2]; exact sameN_0 σ
      · rw [S2, rg_n (Int.le_refl _)]; rfl
      · rw [f04 _ (by decide)]; exact q0
      · rw [u2 _ (by decide), h1 _ (by decide), p0]; exact Int.le_refl _
    have F4 : ∀ G, G ∉ [fR_isTyped, fR_kind0, fD_size, fD_spelled] → G ∉ k0L → σ4 G = σ G := fun G x y => (f04 G x).trans (kf G y)
    obtain ⟨σ5, τ5, c5, nM, x1, x2, x3, x4, x5⟩ := LS_loop E hL (base := base) (mo := 8) (d := d' + 1) (d' := d') (by omega) (by omega) (σ1 := σ4) (τ1 := τ2) (Lc := fun ρ k => r_checkValues_70 (d' + 1) ρ k) (Lm := fun ρ n k => m_askValues_41 d' ρ v n (σ fR_names 0 0 + k))
      (fun ρ k g0 k0' k1 => by
        have Fρ : ∀ G, G ∉ nwL → ρ G = σ4 G := g0
        show r_checkValues_70 (d' + 1) ρ k = _
        rw [e_r_checkValues_70, Fρ fR_runs (by decide), F4 fR_runs (by decide) (by decide), if_pos k1, ck_ok _ (by omega), ck_ok _ (by omega), Fρ fR_kind0 (by decide), k4, if_neg (by omega), ck_ok _ (by omega), Fρ fR_runFrom (by decide), Fρ fR_runTo (by decide), F4 fR_runFrom (by decide) (by decide), F4 fR_runTo (by decide) (by decide), Fρ fW_typeValues (by decide), F4 fW_typeValues (by decide) (by decide), ← eb, e_r_checkValues_117, w32_ok (x := base + k) (by omega)]
        congr 1
        funext q
        rw [w32_ok (x := k + 1) (by omega)])
      (fun ρ n k g0 n0 n1 k0' k1 g hg => by
        show m_askValues_41 d' ρ v n (σ fR_names 0 0 + k) = _
        have Rρ : ρ fM_runs 0 0 = τ fM_runs 0 0 := by rw [g0 _ (by decide), u3 _ (by decide)]
        rw [e_m_askValues_41, Rρ, if_pos (by omega), hg]
        simp only [Option.bind_some]
        rw [if_pos (by omega), e_m_askValues_68]
        cases g with
        | true =>
          rw [b2i_t]
          congr 1
          funext q
          rw [if_neg (by decide), e_m_askValues_84, w32_ok (x := n + 1) (by omega), w32_ok (by omega), Int.add_assoc]
        | false =>
          rw [b2i_f]
          congr 1
          funext q
          rw [if_pos rfl, e_m_askValues_84, w32_ok (x := n + 0) (by omega), w32_ok (by omega), Int.add_assoc])
      0 (Int.le_refl _) (by omega) σ4 τ2 1000000 base (fr_refl _ _) (fr_refl _ _) L0
    obtain ⟨l1, l2, l3, l4, l5, l6, l7, l8, l9, l10, l11, l12, l13⟩ := x5
    have x1' : r_checkValues_70 (d' + 1) σ4 0 = r_checkValues_70 (d' + 1) σ5 (σ fR_runs 0 0) := x1
    have x2' : m_askValues_41 d' τ2 v base (σ fR_names 0 0 + 0) = m_askValues_41 d' τ5 v nM (σ fR_names 0 0 + σ fR_runs 0 0) := x2
    refine ⟨σ5, τ5, c5, ?_, ?_, l1, l2, l3, l4, fr_trans (fr_sub f13 (by decide)) (fr_trans (fr_sub f4 (by decide)) (fr_sub x3 (by decide))), fr_trans h02 (fr_sub x4 (by decide)), fun z => ⟨good.1, good.2, by omega, ?_, ?_, ?_, ?_⟩⟩
    · rw [run0, if_neg (by omega), ← e4, e_r_checkValues_49, F4 fR_names (by decide) (by decide), if_neg (by omega), e_r_checkValues_68, x1', e_r_checkValues_70, x3 fR_runs (by decide), F4 fR_runs (by decide) (by decide), if_neg (Int.lt_irrefl _)]
    · rw [Int.add_zero] at x2'
      rw [run1, if_neg (by omega), val213 τ2 u3, ← ebc, x2', e_m_askValues_41, x4 fM_runs (by decide), u3 fM_runs (by decide), hrn, if_neg (Int.lt_irrefl _)]
      rfl
    · rw [x3 _ (by decide)]; exact k4
    · rw [x3 _ (by decide)]; exact i4
    · rw [x4 _ (by decide), u2 _ (by decide), g1, up_eq]
    · rw [← eb]; exact l13 z
  · -- a note ahead
    obtain ⟨p, hp1, hp2⟩ : ∃ p, (∀ k, 0 ≤ k → k < σ fR_names 0 0 → σ fR_nameTo 0 k ≤ p) ∧ p ≤ σ fR_runFrom 0 0 := hp.resolve_left good
    have ord : ∀ k, 0 ≤ k → k < σ fR_runs 0 0 → σ fR_runFrom 0 0 ≤ σ fR_runFrom 0 k := by
      have step : ∀ n : Nat, (n : Int) < σ fR_runs 0 0 → σ fR_runFrom 0 0 ≤ σ fR_runFrom 0 n := by
        intro n
        induction n with
        | zero => intro _; exact Int.le_refl _
        | succ n ih =>
          intro h
          have i := ih (by push_cast at h; omega)
          have o := hC n (by omega) (by push_cast at h; omega)
          have l : σ fR_runFrom 0 (n : Int) < σ fR_runTo 0 (n : Int) := (hL.2.1 n (by omega) (by push_cast at h; omega)).2
          push_cast
          omega
      intro k k0' k1
      have := step k.toNat (by omega)
      rw [show ((k.toNat : Nat) : Int) = k by omega] at this
      exact this
    have Rk : ∀ k, 0 ≤ k → k < σ fR_runs 0 0 → frB σ N (σ fR_runFrom 0 k) (σ fR_runTo 0 k) := fun k x y => (hL.2.1 k x y).1.2.2.2
    have ah : ∀ j, 0 ≤ j → j < σ fR_names 0 0 → ∀ k, 0 ≤ k → k < σ fR_runs 0 0 → cd σ (σ fR_nameFrom 0 j) 2 ≤ cd σ (σ fR_runFrom 0 k) 0 := by
      intro j j0 j1 k k0' k1
      have a := hLn.2.1 j j0 j1
      have b := hp1 j j0 j1
      have o := ord k k0' k1
      have t := frB_t (Rk k k0' k1)
      have t2 : 0 ≤ σ fR_nameFrom 0 j ∧ σ fR_nameFrom 0 j ≤ N := frB_t a.1.2.2.2
      have lt : σ fR_nameFrom 0 j < σ fR_nameTo 0 j := a.2
      have := cd_lt E.2.1 t2.1 (show σ fR_nameFrom 0 j < σ fR_runFrom 0 k by omega) t.2 (r := 2) (s := 0) (by omega) (by omega)
      omega
    -- the notes
    obtain ⟨c1, ec1⟩ : ∃ x, x = min 1000000 (if T < 2 then cd σ (σ fR_nameFrom 0 0) 2 else 1000000) := ⟨_, rfl⟩
    have u4' : GT τ2 c1 := by
      rw [ec1]
      by_cases z : T < 2
      · rw [if_neg (show ¬ 1 < T by omega), if_pos rfl] at u4; rw [if_pos z]; exact u4
      · rw [if_pos (show 1 < T by omega), if_neg (by decide)] at u4; rw [if_neg z]; exact u4
    obtain ⟨σ4, b1, b2, b3, b4, b5⟩ : ∃ σ4, c_r_checkValues (d' + 1 + 1) σ1 = r_checkValues_49 (d' + 1) σ4 ∧ KC σ σ4 ∧ FT σ4 c1 ∧ fr (fR_kind0 :: ntL) σ3 σ4 ∧ (σ4 fR_kind0 0 0 = -1 ∨ (0 ≤ σ4 fR_kind0 0 0 ∧ σ4 fR_kind0 0 0 < 8)) := by
      rw [run0, ec1]
      have fk : ∀ ρ : ga_S, ∀ x, fr [fR_kind0] ρ (ga_up ρ fR_kind0 0 0 x) := fun ρ x => fr_u (by decide)
      by_cases z : T < 2
      · obtain ⟨σy, v1, v2, v3⟩ := k_note E.2.1 hN5 (KC_f a3 (fk σ3 T) (by decide)) (FT_f F3 (fk σ3 T) (by decide)) (t := σ fR_nameFrom 0 0) (r := 2) (why := 4) tR0 (by omega) (by decide) (d := d' + 1) (by omega)
        rw [if_pos z, if_pos z, v1]
        simp only [Option.bind_some]
        refine ⟨_, rfl, KC_f (KC_f (KC_f a3 (fk σ3 T) (by decide)) v2 (by decide)) (fk σy (-1)) (by decide), FT_f v3 (fk σy (-1)) (by decide), fr_trans (fr_sub (fk σ3 T) (by decide)) (fr_trans (fr_sub v2 (by decide)) (fr_sub (fk σy (-1)) (by decide))), Or.inl (up_eq _ _ _ _ _)⟩
      · rw [if_neg z, if_neg z]
        refine ⟨_, rfl, KC_f a3 (fk σ3 T) (by decide), ?_, fr_sub (fk σ3 T) (by decide), Or.inr (by rw [up_eq]; omega)⟩
        exact FT_f F3 (fk σ3 T) (by decide)
    have f14 : fr (fR_isTyped :: fR_kind0 :: ndL) σ1 σ4 := fr_trans (fr_sub f13 (by decide)) (fr_sub b4 (by decide))
    have F4 : ∀ G, G ∉ (fR_isTyped :: fR_kind0 :: ndL) → G ∉ spL → G ∉ k0L → σ4 G = σ G := fun G x y z => (f14 G x).trans (F1 G y z)
    obtain ⟨c2, ec2⟩ : ∃ x, x = min c1 (if 1 < σ fR_names 0 0 then cd σ (σ fR_nameFrom 0 1) 2 else 1000000) := ⟨_, rfl⟩
    have le1 := FT_le b3
    obtain ⟨σ5, c5, d5, e5, f5⟩ : ∃ σ5, r_checkValues_49 (d' + 1) σ4 = r_checkValues_70 (d' + 1) σ5 0 ∧ KC σ σ5 ∧ FT σ5 c2 ∧ fr ntL σ4 σ5 := by
      rw [e_r_checkValues_49, F4 fR_names (by decide) (by decide) (by decide), ec2]
      by_cases z : 1 < σ fR_names 0 0
      · have t1 := frB_t (hLn.2.1 1 (by decide) z).1.2.2.2
        obtain ⟨σy, v1, v2, v3⟩ := k_note E.2.1 hN5 b2 b3 (t := σ fR_nameFrom 0 1) (r := 2) (why := 4) t1 (by omega) (by decide) (d := d' + 1) (by omega)
        rw [if_pos z, if_pos z, F4 fR_nameFrom (by decide) (by decide) (by decide), v1]
        simp only [Option.bind_some]
        rw [e_r_checkValues_68]
        exact ⟨σy, rfl, KC_f b2 v2 (by decide), v3, v2⟩
      · rw [if_neg z, if_neg z, e_r_checkValues_68, Int.min_eq_left le1]
        exact ⟨σ4, rfl, b2, b3, fr_refl _ _⟩
    obtain ⟨τ5, m5, n5, o5, p5⟩ : ∃ τ5, m_askFifteen_162 (d' + 1) (a0 τ) 0 v = m_askFifteen_213 (d' + 1) τ5 v ∧ KM τ τ5 ∧ GT τ5 c2 ∧ fr ntM τ2 τ5 := by
      rw [run1, ec2]
      by_cases z : 1 < σ fR_names 0 0
      · have R1 := (hLn.2.1 1 (by decide) z).1
        have t1 := frB_t R1.2.2.2
        have R1f : τ fM_runFrom 0 1 = f + σ fR_nameFrom 0 1 := R1.2.1
        obtain ⟨τy, v1, v2, v3⟩ := m_note E.2.1 ⟨E.1.1, E.1.2.1⟩ u3 u4' (t := σ fR_nameFrom 0 1) (t' := f + σ fR_nameFrom 0 1) (r := 2) (why := 4) t1 rfl (by omega) (by decide) (d := d' + 1) (by omega)
        rw [if_pos z, if_pos z, ck_ok _ (by decide), R1f, v1]
        exact ⟨τy, rfl, KM_f u3 v2 (by decide), v3, v2⟩
      · rw [if_neg z, if_neg z, Int.min_eq_left le1]
        exact ⟨τ2, rfl, u3, u4', fr_refl _ _⟩
    have c2le : ∀ k, 0 ≤ k → k < σ fR_runs 0 0 → c2 ≤ cd σ (σ fR_runFrom 0 k) 0 := by
      intro k k0' k1
      by_cases z : σ fR_names 0 0 = 1
      · have zT : T < 2 := Classical.byContradiction fun y => good ⟨z, by omega⟩
        rw [if_pos zT] at ec1
        have := ah 0 (Int.le_refl _) (by omega) k k0' k1
        omega
      · rw [if_pos (show 1 < σ fR_names 0 0 by omega)] at ec2
        have := ah 1 (by decide) (by omega) k k0' k1
        omega
    have F5 : ∀ G, G ∉ ntL → G ∉ (fR_isTyped :: fR_kind0 :: ndL) → G ∉ spL → G ∉ k0L → σ5 G = σ G := fun G w x y z => (f5 G w).trans (F4 G x y z)
    have f05 : ∀ G, G ∉ ntL → G ∉ (fR_isTyped :: fR_kind0 :: ndL) → G ∉ spL → σ5 G = (k0 σ) G := fun G w x y => (f5 G w).trans ((f14 G x).trans (f1 G y))
    obtain ⟨σ6, g6, k6, l6, f6⟩ := k_vals_no E hn25 Rk c2le (d := d' + 1) (by omega) 0 (Int.le_refl _) (by omega) σ5 d5 e5 (by unfold nwO; rw [f05 _ (by decide) (by decide) (by decide), f05 _ (by decide) (by decide) (by decide), f05 _ (by decide) (by decide) (by decide)]; exact O0) (by rw [f05 _ (by decide) (by decide) (by decide)]; exact q0) ⟨F5 _ (by decide) (by decide) (by decide) (by decide), F5 _ (by decide) (by decide) (by decide) (by decide), F5 _ (by decide) (by decide) (by decide) (by decide)⟩ (by rw [f5 _ (by decide)]; exact b5)
    obtain ⟨τ6, g7, k7, l7, f7⟩ := m_vals_no E hL (by omega) ⟨hrn, by omega⟩ c2le (v := v) (d := d') (by omega) 0 (Int.le_refl _) (by omega) τ5 (cntV σ v) n5 o5 (by unfold nwQ; rw [p5 _ (by decide), p5 _ (by decide), u2 _ (by decide), u2 _ (by decide), h1 _ (by decide), h1 _ (by decide)]; exact Q0) (by rw [p5 _ (by decide), u2 _ (by decide), h1 _ (by decide), p0]; exact Int.le_refl _) cv.1 (by omega)
    rw [Int.add_zero] at g7
    refine ⟨σ6, τ6, c2, by rw [b1, c5, g6], ?_, k6, k7, l6, l7, fr_trans (fr_sub f14 (by decide)) (fr_trans (fr_sub f5 (by decide)) (fr_sub f6 (by decide))), fr_trans h02 (fr_trans (fr_sub p5 (by decide)) (fr_sub f7 (by decide))), fun z => ?_⟩
    · rw [m5, val213 τ5 n5, g7]
      rfl
    · have := c2le 0 (Int.le_refl _) (by omega)
      have cr := cd_r E.2.1 (frB_t (Rk 0 (Int.le_refl _) (by omega))) (r := 0) (by omega)
      omega
theorem ck_16 (E : E0 σ τ f N) (hf : σ fR_fault 0 0 = 0) (hm : 2 * τ fM_runs 0 0 ≤ 5001) (hs : σ fR_sort 0 0 = 16) (ht : τ fM_sort 0 0 = 16) (H : vaH σ τ f) (hu : τ fM_isUsually 0 0 = 0) (hp : ∃ p, (∀ k, 0 ≤ k → k < σ fR_names 0 0 → σ fR_nameTo 0 k ≤ p) ∧ p ≤ σ fR_runFrom 0 0) {d : Nat} (hd : 7 ≤ d) (first : Int) : ∃ σ' τ' c, c_r_check (d + 2) σ = some (0, σ') ∧ c_m_asked (d + 2) τ first = some (0, τ') ∧ KC σ σ' ∧ KM τ τ' ∧ FT σ' c ∧ GT τ' c ∧ fr ksL σ σ' ∧ fr (a0L ++ fM_how :: mbN) τ τ' ∧ (c = 1000000 → σ fR_names 0 0 = 1 ∧ 2 ≤ tyN σ (nN σ 0) ∧ tyN σ (nN σ 0) < σ fW_types 0 0 ∧ σ' fR_kind0 0 0 = tyN σ (nN σ 0) ∧ σ' fR_isTyped 0 0 = 1 ∧ τ' fM_how 0 0 = 2 ∧ ∀ j, 0 ≤ j → j < σ fR_runs 0 0 → nB σ (wC σ j) ((rg 0 j).map (wC σ)) = true ∧ σ fW_typeValues 0 (tyN σ (nN σ 0)) + j < 8) := by
  obtain ⟨v, ev⟩ : ∃ x : Int, x = if σ fR_names 0 0 = 1 then tyN σ (nN σ 0) else -1 := ⟨_, rfl⟩
  obtain ⟨σ', τ', c, a1, a2, a3, a4, a5, a6, a7, a8, a9⟩ := vals_ck E hf hm H (Or.inr hp) (fr_refl spL (k0 σ)) ev (d := d) hd
  obtain ⟨hn, ho, hn1, hl, hr, hwh, hr1, hrn, hC⟩ := H
  have af := a0_fr τ
  obtain ⟨M0, _⟩ := a0_ok σ τ f N
  have hLn := LST_n E hm hn ho
  have R0 : RU σ τ f N 0 (σ fR_nameFrom 0 0) (σ fR_nameTo 0 0) := (hLn.2.1 0 (Int.le_refl _) (by omega)).1
  refine ⟨σ', τ', c, ?_, ?_, a3, a4, a5, a6, (fr_trans (fr_sub (k0_fr σ) (by decide)) (fr_sub a7 (by decide))), fr_trans (fr_sub af (by decide)) (fr_sub a8 (by decide)), a9⟩
  · rw [e_r_check, hs]
    iterate 16 rw [if_neg (by decide)]
    rw [if_pos rfl]
    show ((c_r_checkValues (d + 1) (k0 σ)).bind _) = _
    rw [a1]
    rfl
  · have s140 : ∀ x y, m_askFifteen_140 d (a0 τ) x y v = m_askFifteen_162 d (a0 τ) x v := by
      intro x y
      rw [e_m_askFifteen_140, af fM_sort (by decide), if_pos ht]
    have run : c_m_askFifteen (d + 1) (a0 τ) = some (0, τ') := by
      rw [e_m_askFifteen, af fM_what (by decide), hwh, ck_ok _ (by omega), af fM_isUsually (by decide), if_pos hu, af fM_listSize (by decide), hl.2, af fM_listFrom (by decide), hl.1]
      by_cases z : σ fR_names 0 0 = 1
      · rw [if_pos z] at ev
        rw [if_pos z, m_typeOrPlural E M0 R0 (by omega)]
        simp only [Option.bind_some]
        have ev' : tyN σ (nmT σ (σ fR_nameFrom 0 0) (σ fR_nameTo 0 0)) = v := ev.symm
        rw [ev', s140, a2]
      · rw [if_neg z] at ev
        rw [if_neg z, ← ev, s140, a2]
    rw [e_m_asked, ht]
    iterate 16 rw [if_neg (by decide)]
    rw [if_pos rfl]
    show ((c_m_askFifteen (d + 1) (a0 τ)).bind _) = _
    rw [run]
    rfl
end

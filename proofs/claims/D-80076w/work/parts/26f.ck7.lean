/-! check of sort 14: a way -/
section
variable {σ0 τ0 : ga_S} {f : Int} {N : Nat}
/-- the first name alone: an object, or new -/
theorem k_obj1 {σ : ga_S} (E : E0 σ0 τ0 f N) (K : KC σ0 σ) {c : Int} (hF : FT σ c) (hq : σ fR_newNames 0 0 = 0) {a b : Int} (hb : frB σ0 N a b) (hA : σ fR_nameFrom 0 0 = a ∧ σ fR_nameTo 0 0 = b) {d : Nat} (hd : 6 ≤ d) : ∃ σ', c_r_objectsOrNew d σ 1 1 = some (0, σ') ∧ fr nwL σ σ' ∧ KC σ0 σ' ∧ FT σ' (min c (obC σ0 (nmT σ0 a b) (nB σ0 (wsT σ0 0 a b) []) (σ0 fW_objects 0 0) a)) := by
  obtain ⟨d, rfl⟩ : ∃ e, d = e + 1 := ⟨d - 1, by omega⟩
  have t := frB_t hb
  have wo := e0_o E
  have wo1 := wo.1
  have wo2 := wo.2.1
  obtain ⟨nm, enm⟩ : ∃ x, x = nmT σ0 a b := ⟨_, rfl⟩
  have D := dS_1 E.2.2.1 nm
  obtain ⟨σ1, a1, a2, a3⟩ := k_spell E K hb (d := d) (by omega)
  rw [← enm] at a3 ⊢
  have K1 := KC_f K a2 (by decide)
  have F1 := FT_f hF a2 (by decide)
  have so := k_sort E K1 a3 (d := d) (by omega)
  have nF : σ1 fR_nameFrom 0 0 = a ∧ σ1 fR_nameTo 0 0 = b := by rw [a2 _ (by decide), a2 _ (by decide)]; exact hA
  have q1 : σ1 fR_newNames 0 0 = 0 := by rw [a2 _ (by decide)]; exact hq
  have S1 : nwC σ0 σ1 = [] := by unfold nwC; rw [q1, rg_n (Int.le_refl _)]; rfl
  have O1 : nwO σ0 N σ1 := by unfold nwO; rw [q1]; exact ⟨Int.le_refl _, fun k h1 h2 => by omega⟩
  have le := FT_le hF
  have last : ∀ ρ x, r_objectsOrNew_108 d ρ 1 1 x 0 = some (0, ρ) := fun ρ x => by rw [e_r_objectsOrNew_108, w32_ok (by omega), e_r_objectsOrNew_5, if_neg (by omega)]
  rw [e_r_objectsOrNew, e_r_objectsOrNew_5, if_pos (by omega), ck_ok _ (by omega), ck_ok _ (by omega), hA.1, hA.2, a1]
  simp only [Option.bind_some]
  rw [so]
  simp only [Option.bind_some]
  by_cases z : fnd σ0 nm 0 = -1
  · obtain ⟨σ2, b1, b2, b3, b4, _⟩ := k_isNew E K1 F1 O1 (by omega) hb (σ0 fW_objects 0 0) 24 (d := d) (by omega)
    rw [S1] at b4
    have eC : obC σ0 nm (nB σ0 (wsT σ0 0 a b) []) (σ0 fW_objects 0 0) a = nwCd σ0 (nB σ0 (wsT σ0 0 a b) []) (σ0 fW_objects 0 0) 24 a := by unfold obC; rw [if_pos z]
    rw [if_pos (D.1.mpr z), if_neg (by decide), ck_ok _ (by omega), ck_ok _ (by omega), nF.1, nF.2, K1.1 fW_objects (by decide), Int.add_zero, w32_ok (x := σ0 fW_objects 0 0) (by omega), b1]
    simp only [Option.bind_some]
    rw [last, eC]
    exact ⟨σ2, rfl, fr_trans (fr_sub a2 (by decide)) b2, b3, b4⟩
  · rw [if_neg (fun y => z (D.1.mp y)), e_r_objectsOrNew_90]
    by_cases y : dN σ0 nm 2 = -1
    · obtain ⟨σ2, b1, b2, b3⟩ := k_note E.2.1 E.1.2.2.1 K1 F1 (t := a) (r := 2) (why := 4) t (by omega) (by decide) (d := d) (by omega)
      have eC : obC σ0 nm (nB σ0 (wsT σ0 0 a b) []) (σ0 fW_objects 0 0) a = cd σ0 a 2 := by unfold obC; rw [if_neg z, if_pos y]
      rw [if_neg (fun w => (D.2 2 (by decide)).mp w y), ck_ok _ (by omega), nF.1, b1]
      simp only [Option.bind_some]
      rw [last, eC]
      exact ⟨σ2, rfl, fr_trans (fr_sub a2 (by decide)) (fr_sub b2 (by decide)), KC_f K1 b2 (by decide), b3⟩
    · have eC : obC σ0 nm (nB σ0 (wsT σ0 0 a b) []) (σ0 fW_objects 0 0) a = 1000000 := by unfold obC; rw [if_neg z, if_neg y]
      rw [if_pos ((D.2 2 (by decide)).mpr y), last, eC, show min c 1000000 = c by omega]
      exact ⟨σ1, rfl, fr_sub a2 (by decide), K1, F1⟩
theorem m_isKind {τ : ga_S} (E : E0 σ0 τ0 f N) (K : KM τ0 τ) {o : Int} (ho : 0 ≤ o ∧ o < σ0 fW_objects 0 0) (k : Int) {d : Nat} (hd : 1 ≤ d) : c_m_isBelow d τ (τ fM_kindOf 0 o) k = some (b2i (isB (σ0 fW_parents 0) (σ0 fW_kindOf 0 o) k), τ) := by
  have wk := e0_k E
  have wo := e0_o E
  have oo := wo.2.2.2 o ho.1 ho.2
  rw [K fM_kindOf (by decide), oo.2.2]
  exact s_m_isBelow wk.1 (fun k h0 h1 => by rw [K _ (by decide)]; exact wk.2.2.2.1 k h0 h1) hd k (by omega) oo.2.1
end
theorem min5_all {a b c d e m : Int} (hm : m = min d e) (h : min (min (min (min (min 1000000 a) b) c) d) e = 1000000) : 1000000 ≤ a ∧ 1000000 ≤ b ∧ 1000000 ≤ c ∧ 1000000 ≤ m := by omega
theorem min5_eq {a b c d e m : Int} (hm : m = min d e) : min (min (min (min (min 1000000 a) b) c) d) e = min (min (min (min 1000000 m) c) a) b := by omega
theorem min1M {x : Int} : min (min 1000000 x) 1000000 = min 1000000 x := by omega
/-- a name is no room -/
def noRm (σ : ga_S) (nm : List Int) : Prop := dN σ nm 2 = -1 ∨ isB (σ fW_parents 0) (σ fW_kindOf 0 (dN σ nm 2)) 1 = false
theorem ck_14 {σ τ : ga_S} {f : Int} {N : Nat} (E : E0 σ τ f N) (hf : σ fR_fault 0 0 = 0) (hm : 2 * τ fM_runs 0 0 ≤ 5001) (hs : σ fR_sort 0 0 = 14) (ht : τ fM_sort 0 0 = 14) (hn : ∀ k, 0 ≤ k → k < σ fR_names 0 0 → nn σ τ f k k) (hn1 : 1 ≤ σ fR_names 0 0) (hl : τ fM_listFrom 0 0 = 0 ∧ τ fM_listSize 0 0 = σ fR_names 0 0) (r0 : rr σ τ f 0 (τ fM_what 0 0)) (r1 : rr σ τ f 1 (τ fM_placeRun 0 0)) {d : Nat} (hd : 9 ≤ d) (first : Int) : ckX σ τ (c_r_check d σ) (c_m_asked d τ first) (fun σ' _ => σ fR_names 0 0 = 1 ∧ σ' fR_kind0 0 0 = dN σ (nR σ 0) 9 ∧ dN σ (nR σ 0) 9 ≠ -1 ∧ σ' fR_object0 0 0 = dN σ (nR σ 1) 2 ∧ ¬ noRm σ (nR σ 1) ∧ ((fnd σ (nN σ 0) 0 = -1 ∧ nB σ (wN σ 0) [] = true ∧ σ fW_objects 0 0 < 24) ∨ ¬ noRm σ (nN σ 0))) := by
  obtain ⟨d, rfl⟩ : ∃ e, d = e + 1 := ⟨d - 1, by omega⟩
  obtain ⟨e, rfl⟩ : ∃ e, d = e + 1 := ⟨d - 1, by omega⟩
  obtain ⟨K1, F1, O1, q1, S1, _⟩ := k0_ok hf N
  obtain ⟨M1, G1, Q1, p1, T1, _⟩ := a0_ok σ τ f N
  have R0 := RU_of E.1 r0 (by omega)
  have R1 := RU_of E.1 r1 (by omega)
  have RN := RU_of E.1 (hn 0 (Int.le_refl _) (by omega)) (by omega)
  have t0 := frB_t R0.2.2.2
  have t1 := frB_t R1.2.2.2
  have tn := frB_t RN.2.2.2
  have wo := e0_o E
  have wo2 := wo.2.1
  have mo : mxN σ 2 = σ fW_objects 0 0 := rfl
  have ro1 := e0_dN E (nR σ 1) 2
  have ron := e0_dN E (nN σ 0) 2
  -- codes
  obtain ⟨cA, ecA⟩ : ∃ x : Int, x = (if dN σ (nR σ 0) 9 = -1 then cd σ (σ fR_runFrom 0 0) 2 else 1000000) := ⟨_, rfl⟩
  obtain ⟨cB, ecB⟩ : ∃ x : Int, x = (if dN σ (nR σ 1) 2 = -1 ∨ isB (σ fW_parents 0) (σ fW_kindOf 0 (dN σ (nR σ 1) 2)) 1 = false then cd σ (σ fR_runFrom 0 1) 2 else 1000000) := ⟨_, rfl⟩
  obtain ⟨cC, ecC⟩ : ∃ x : Int, x = (if 1 < σ fR_names 0 0 then cd σ (σ fR_nameFrom 0 1) 2 else 1000000) := ⟨_, rfl⟩
  obtain ⟨cO, ecO⟩ : ∃ x : Int, x = obC σ (nN σ 0) (nB σ (wN σ 0) []) (σ fW_objects 0 0) (σ fR_nameFrom 0 0) := ⟨_, rfl⟩
  obtain ⟨cD, ecD⟩ : ∃ x : Int, x = (if dN σ (nN σ 0) 2 ≠ -1 ∧ isB (σ fW_parents 0) (σ fW_kindOf 0 (dN σ (nN σ 0) 2)) 1 = false then cd σ (σ fR_nameFrom 0 0) 2 else 1000000) := ⟨_, rfl⟩
  have x2 := cd_r E.2.1 t0 (r := 2) (by omega)
  have x3 := cd_r E.2.1 t1 (r := 2) (by omega)
  have x4 := cd_r E.2.1 tn (r := 2) (by omega)
  -- the component
  obtain ⟨σ2, a1, a2, a3, a4⟩ := k_need E K1 F1 R0.2.2.2 (d := e) (by omega) 9
  obtain ⟨σ3, e3⟩ : ∃ x, x = ga_up σ2 fR_kind0 0 0 (dN σ (nR σ 0) 9) := ⟨_, rfl⟩
  have f3 : fr [fR_kind0] σ2 σ3 := by rw [e3]; exact fr_u (by decide)
  have a4' : FT σ2 (min 1000000 cA) := by rw [ecA]; exact a4
  obtain ⟨σ4, b1, b2, b3, b4⟩ := k_need E (KC_f a3 f3 (by decide)) (FT_f a4' f3 (by decide)) R1.2.2.2 (d := e) (by omega) 2
  obtain ⟨σ5, e5⟩ : ∃ x, x = ga_up σ4 fR_object0 0 0 (dN σ (nR σ 1) 2) := ⟨_, rfl⟩
  have f5 : fr [fR_object0] σ4 σ5 := by rw [e5]; exact fr_u (by decide)
  have K5 := KC_f b3 f5 (by decide)
  have f15 : fr (fR_object0 :: fR_kind0 :: ndL) (k0 σ) σ5 := fr_trans (fr_sub a2 (by decide)) (fr_trans (fr_sub f3 (by decide)) (fr_trans (fr_sub b2 (by decide)) (fr_sub f5 (by decide))))
  have rf5 : σ5 fR_runFrom = σ fR_runFrom := (f15 _ (by decide)).trans (k0_fr σ _ (by decide))
  have stB : ∃ σ6, (if dN σ (nR σ 1) 2 = -1 then r_checkWay_77 e σ5 else (c_w_isKind e σ5 (dN σ (nR σ 1) 2) 1).bind fun q3 => if q3.1 = 0 then (c_r_note e q3.2 4 (q3.2 fR_runFrom 0 1)).bind (fun q4 => r_checkWay_77 e q4.2) else r_checkWay_77 e q3.2) = r_checkWay_77 e σ6 ∧ fr ntL σ5 σ6 ∧ FT σ6 (min (min 1000000 cA) cB) := by
    by_cases z : dN σ (nR σ 1) 2 = -1
    · rw [if_pos (Or.inl z)] at ecB
      have b4' : FT σ4 (min (min 1000000 cA) (if dN σ (nR σ 1) 2 = -1 then cd σ (σ fR_runFrom 0 1) 2 else 1000000)) := b4
      rw [if_pos z, ← ecB] at b4'
      rw [if_pos z]
      exact ⟨σ5, rfl, fr_refl _ _, FT_f b4' f5 (by decide)⟩
    · have b4' : FT σ4 (min (min 1000000 cA) (if dN σ (nR σ 1) 2 = -1 then cd σ (σ fR_runFrom 0 1) 2 else 1000000)) := b4
      rw [if_neg z, min1M] at b4'
      rw [if_neg z, k_isKind E K5 (o := dN σ (nR σ 1) 2) (by omega) 1 (by omega)]
      simp only [Option.bind_some]
      cases q : isB (σ fW_parents 0) (σ fW_kindOf 0 (dN σ (nR σ 1) 2)) 1 with
      | true =>
        rw [if_neg (fun y => by rcases y with y | y; exact z y; rw [q] at y; cases y)] at ecB
        rw [if_neg b2i_n, ecB, min1M]
        exact ⟨σ5, rfl, fr_refl _ _, FT_f b4' f5 (by decide)⟩
      | false =>
        rw [if_pos (Or.inr q)] at ecB
        obtain ⟨σ6, g1, g2, g3⟩ := k_note E.2.1 E.1.2.2.1 K5 (FT_f b4' f5 (by decide)) (t := σ fR_runFrom 0 1) (r := 2) (why := 4) t1 (by omega) (by decide) (d := e) (by omega)
        rw [if_pos b2i_f, rf5, g1, ecB]
        exact ⟨σ6, rfl, g2, g3⟩
  obtain ⟨σ6, g1, g2, g3⟩ := stB
  have K6 := KC_f K5 g2 (by decide)
  have f16 : fr (fR_object0 :: fR_kind0 :: ndL) (k0 σ) σ6 := fr_trans f15 (fr_sub g2 (by decide))
  have F6 : ∀ G, G ∉ (fR_object0 :: fR_kind0 :: ndL) → G ∉ k0L → σ6 G = σ G := fun G a b => (f16 G a).trans (k0_fr σ G b)
  have stC : ∃ σ7, r_checkWay_77 e σ6 = r_checkWay_96 e σ7 ∧ fr ntL σ6 σ7 ∧ FT σ7 (min (min (min 1000000 cA) cB) cC) := by
    rw [e_r_checkWay_77, F6 fR_names (by decide) (by decide), F6 fR_nameFrom (by decide) (by decide)]
    by_cases z : 1 < σ fR_names 0 0
    · have tn1 := frB_t (RU_of E.1 (hn 1 (by omega) z) (by omega)).2.2.2
      obtain ⟨σ7, i1, i2, i3⟩ := k_note E.2.1 E.1.2.2.1 K6 g3 (t := σ fR_nameFrom 0 1) (r := 2) (why := 4) tn1 (by omega) (by decide) (d := e) (by omega)
      rw [if_pos z] at ecC
      rw [if_pos z, i1, ecC]
      exact ⟨σ7, rfl, i2, i3⟩
    · have := FT_le g3
      rw [if_neg z] at ecC
      rw [if_neg z, ecC, Int.min_eq_left this]
      exact ⟨σ6, rfl, fr_refl _ _, g3⟩
  obtain ⟨σ7, i1, i2, i3⟩ := stC
  have K7 := KC_f K6 i2 (by decide)
  have f17 : fr (fR_object0 :: fR_kind0 :: ndL) (k0 σ) σ7 := fr_trans f16 (fr_sub i2 (by decide))
  have F7 : ∀ G, G ∉ (fR_object0 :: fR_kind0 :: ndL) → G ∉ k0L → σ7 G = σ G := fun G a b => (f17 G a).trans (k0_fr σ G b)
  obtain ⟨σ8, j1, j2, j3, j4⟩ := k_obj1 E K7 i3 (by rw [f17 _ (by decide)]; exact q1) RN.2.2.2 ⟨by rw [F7 _ (by decide) (by decide)], by rw [F7 _ (by decide) (by decide)]⟩ (d := e) (by omega)
  have j4' : FT σ8 (min (min (min (min 1000000 cA) cB) cC) cO) := by rw [ecO]; exact j4
  have F8 : ∀ G, G ∉ nwL → G ∉ (fR_object0 :: fR_kind0 :: ndL) → G ∉ k0L → σ8 G = σ G := fun G x a b => (j2 G x).trans (F7 G a b)
  obtain ⟨e', rfl⟩ : ∃ e', e = e' + 1 := ⟨e - 1, by omega⟩
  obtain ⟨σ9, k1, k2, k3, k4⟩ := k_mean E j3 RN.2.2.2 (d := e') (by omega) 2
  have stD : ∃ σ10, r_checkWay_96 (e' + 1) σ7 = some (0, σ10) ∧ fr ndL σ8 σ10 ∧ KC σ σ10 ∧ FT σ10 (min (min (min (min (min 1000000 cA) cB) cC) cO) cD) := by
    have oa : c_r_objectAt (e' + 1) σ8 0 = some (dN σ (nN σ 0) 2, σ9) := by
      rw [e_r_objectAt, ck_ok _ (by omega), ck_ok _ (by omega), F8 fR_nameFrom (by decide) (by decide) (by decide), F8 fR_nameTo (by decide) (by decide) (by decide), k1]; rfl
    have F9 := FT_f j4' k2 (by decide)
    have le9 := FT_le j4'
    rw [e_r_checkWay_96, j1]
    simp only [Option.bind_some]
    rw [oa]
    simp only [Option.bind_some]
    by_cases z : dN σ (nN σ 0) 2 = -1
    · rw [if_neg (fun y => y.1 z)] at ecD
      rw [if_pos z, ecD, Int.min_eq_left le9]
      exact ⟨σ9, rfl, fr_sub k2 (by decide), k4, F9⟩
    · rw [if_neg z, k_isKind E k4 (o := dN σ (nN σ 0) 2) (by omega) 1 (by omega)]
      simp only [Option.bind_some]
      cases q : isB (σ fW_parents 0) (σ fW_kindOf 0 (dN σ (nN σ 0) 2)) 1 with
      | true =>
        rw [if_neg (fun y => by have := y.2; rw [q] at this; cases this)] at ecD
        rw [if_neg b2i_n, ecD, Int.min_eq_left le9]
        exact ⟨σ9, rfl, fr_sub k2 (by decide), k4, F9⟩
      | false =>
        rw [if_pos ⟨z, q⟩] at ecD
        obtain ⟨σ10, l1, l2, l3⟩ := k_note E.2.1 E.1.2.2.1 k4 F9 (t := σ fR_nameFrom 0 0) (r := 2) (why := 4) tn (by omega) (by decide) (d := e' + 1) (by omega)
        rw [if_pos b2i_f, k2 fR_nameFrom (by decide), F8 fR_nameFrom (by decide) (by decide) (by decide), l1, ecD]
        exact ⟨σ10, rfl, fr_trans (fr_sub k2 (by decide)) (fr_sub l2 (by decide)), KC_f k4 l2 (by decide), l3⟩
  obtain ⟨σ10, l1, l2, l3, l4⟩ := stD
  have hC : c_r_check (e' + 1 + 1 + 1) σ = some (0, σ10) := by
    rw [e_r_check, hs]
    iterate 14 rw [if_neg (by decide)]
    rw [if_pos rfl]
    show ((c_r_checkWay (e' + 1 + 1) (k0 σ)).bind _) = _
    rw [e_r_checkWay, k0_fr σ fR_runFrom (by decide), k0_fr σ fR_runTo (by decide), a1]
    simp only [Option.bind_some]
    rw [show ga_up σ2 fR_kind0 0 0 (dN σ (nmT σ (σ fR_runFrom 0 0) (σ fR_runTo 0 0)) 9) = σ3 from e3.symm, a2 fR_runFrom (by decide), a2 fR_runTo (by decide), k0_fr σ fR_runFrom (by decide), k0_fr σ fR_runTo (by decide), b1]
    simp only [Option.bind_some]
    rw [show ga_up σ4 fR_object0 0 0 (dN σ (nmT σ (σ fR_runFrom 0 1) (σ fR_runTo 0 1)) 2) = σ5 from e5.symm]
    rw [i1, l1] at g1
    have g1' : (if dN σ (nmT σ (σ fR_runFrom 0 1) (σ fR_runTo 0 1)) 2 = -1 then r_checkWay_77 (e' + 1) σ5 else (c_w_isKind (e' + 1) σ5 (dN σ (nmT σ (σ fR_runFrom 0 1) (σ fR_runTo 0 1)) 2) 1).bind fun q3 => if q3.1 = 0 then (c_r_note (e' + 1) q3.2 4 (q3.2 fR_runFrom 0 1)).bind (fun q4 => r_checkWay_77 (e' + 1) q4.2) else r_checkWay_77 (e' + 1) q3.2) = some (0, σ10) := g1
    rw [g1']; rfl
  -- the model
  obtain ⟨cM, ecM⟩ : ∃ x : Int, x = (if fnd σ (nN σ 0) 0 = -1 then nwCd σ (nB σ (wN σ 0) []) (σ fW_objects 0 0) 24 (σ fR_nameFrom 0 0) else if dN σ (nN σ 0) 2 = -1 ∨ isB (σ fW_parents 0) (σ fW_kindOf 0 (dN σ (nN σ 0) 2)) 1 = false then cd σ (σ fR_nameFrom 0 0) 2 else 1000000) := ⟨_, rfl⟩
  have cMD : cM = min cO cD := by
    have w := nwCd_r E.2.1 (nB σ (wN σ 0) []) (σ fW_objects 0 0) 24 tn
    rw [ecM, ecO, ecD]
    unfold obC
    by_cases z : fnd σ (nN σ 0) 0 = -1
    · have dn : dN σ (nN σ 0) 2 = -1 := by unfold dN; rw [if_pos (Or.inl z)]
      rw [if_pos z, if_pos z, if_neg (fun y => y.1 dn)]; omega
    · rw [if_neg z, if_neg z]
      by_cases y : dN σ (nN σ 0) 2 = -1
      · rw [if_pos (Or.inl y), if_pos y, if_neg (fun w => w.1 y)]; omega
      · rw [if_neg y]
        by_cases q : isB (σ fW_parents 0) (σ fW_kindOf 0 (dN σ (nN σ 0) 2)) 1 = false
        · rw [if_pos (Or.inr q), if_pos ⟨y, q⟩]; omega
        · rw [if_neg (fun w => w.elim y q), if_neg (fun w => q w.2)]; omega
  have stM : ∃ τ2, c_m_askWay (e' + 1 + 1) (a0 τ) = m_askWay_69 (e' + 1) τ2 0 ∧ fr mbN (a0 τ) τ2 ∧ KM τ τ2 ∧ GT τ2 (min 1000000 cM) := by
    rw [e_m_askWay, a0_fr τ fM_listFrom (by decide), hl.1, m_meansNothing E M1 RN (by omega)]
    simp only [Option.bind_some]
    show ∃ τ2, (if b2i (decide (fnd σ (nN σ 0) 0 = -1)) = 0 then _ else _) = _ ∧ _
    by_cases z : fnd σ (nN σ 0) 0 = -1
    · obtain ⟨τ2, m1, m2, m3, m4, _⟩ := m_mustBeNew E M1 G1 Q1 (by omega) RN (σ fW_objects 0 0) 24 (d := e' + 1) (by omega)
      rw [T1] at m4
      rw [if_pos z] at ecM
      rw [decide_eq_true z, if_neg b2i_n, a0_fr τ fM_objects (by decide), wo.2.2.1, m1]
      simp only [Option.bind_some]
      rw [ecM]
      exact ⟨τ2, rfl, m2, m3, m4⟩
    · rw [if_neg z] at ecM
      obtain ⟨τ2, m1, m2, m3, m4⟩ := m_needI E M1 G1 (dN σ (nN σ 0) 2 = -1 ∨ isB (σ fW_parents 0) (σ fW_kindOf 0 (dN σ (nN σ 0) 2)) 1 = false) tn RN.2.1 (r := 2) (why := 4) (by omega) (by decide) (d := e' + 1) (by omega)
      have s59 : m_askWay_59 (e' + 1) (a0 τ) 0 (if dN σ (nN σ 0) 2 = -1 ∨ isB (σ fW_parents 0) (σ fW_kindOf 0 (dN σ (nN σ 0) 2)) 1 = false then 0 else 1) = m_askWay_69 (e' + 1) τ2 0 := by
        rw [e_m_askWay_59, ck_ok _ RN.1, M1 fM_runFrom (by decide), m1]; rfl
      rw [← ecM] at m4
      refine ⟨τ2, ?_, fr_sub m2 (by decide), m3, m4⟩
      rw [decide_eq_false z, if_pos b2i_f, m_meansRun E M1 RN.2.2.2 RN.1 RN.2.1 RN.2.2.1 (by omega), mN_dN (s := 2) (by omega)]
      simp only [Option.bind_some]
      show (if dN σ (nN σ 0) 2 = -1 then _ else _) = _
      by_cases y : dN σ (nN σ 0) 2 = -1
      · rw [if_pos (Or.inl y)] at s59
        rw [if_pos y, e_m_askWay_58, s59]
      · have mk := m_isKind E M1 (o := dN σ (nN σ 0) 2) (by omega) 1 (d := e' + 1) (by omega)
        have mk' : c_m_isBelow (e' + 1) (a0 τ) ((a0 τ) fM_kindOf 0 (dN σ (nmT σ (σ fR_nameFrom 0 0) (σ fR_nameTo 0 0)) 2)) 1 = some (b2i (isB (σ fW_parents 0) (σ fW_kindOf 0 (dN σ (nN σ 0) 2)) 1), a0 τ) := mk
        have b24 : 0 ≤ dN σ (nN σ 0) 2 ∧ dN σ (nN σ 0) 2 < 24 := by omega
        rw [if_neg y, ck_ok (i := dN σ (nmT σ (σ fR_nameFrom 0 0) (σ fR_nameTo 0 0)) 2) _ b24, mk']
        simp only [Option.bind_some]
        cases q : isB (σ fW_parents 0) (σ fW_kindOf 0 (dN σ (nN σ 0) 2)) 1 with
        | true =>
          rw [if_neg (fun w => by rcases w with w | w; exact y w; rw [q] at w; cases w)] at s59
          rw [if_neg b2i_n, s59]
        | false =>
          rw [if_pos (Or.inr q)] at s59
          rw [if_pos b2i_f, e_m_askWay_58, s59]
  obtain ⟨τ2, m1, m2, m3, m4⟩ := stM
  have stN : ∃ τ3, m_askWay_69 (e' + 1) τ2 0 = m_askWay_90 (e' + 1) τ3 ∧ fr ntM τ2 τ3 ∧ KM τ τ3 ∧ GT τ3 (min (min 1000000 cM) cC) := by
    rw [e_m_askWay_69, m3 fM_listSize (by decide), hl.2, Int.zero_add, w32_ok (by omega)]
    by_cases z : 1 < σ fR_names 0 0
    · have RN1 := RU_of E.1 (hn 1 (by omega) z) (by omega)
      obtain ⟨τ3, n1, n2, n3⟩ := m_note E.2.1 ⟨E.1.1, E.1.2.1⟩ m3 m4 (t := σ fR_nameFrom 0 1) (t' := τ fM_runFrom 0 1) (r := 2) (why := 4) (frB_t RN1.2.2.2) RN1.2.1 (by omega) (by decide) (d := e' + 1) (by omega)
      rw [if_pos z] at ecC
      rw [if_pos z, ck_ok _ (by omega), m3 fM_runFrom (by decide), n1, ecC]
      exact ⟨τ3, rfl, n2, KM_f m3 n2 (by decide), n3⟩
    · have := GT_le m4
      rw [if_neg z] at ecC
      rw [if_neg z, ecC, show min (min 1000000 cM) 1000000 = min 1000000 cM by omega]
      exact ⟨τ2, rfl, fr_refl _ _, m3, m4⟩
  obtain ⟨τ3, n1, n2, n3, n4⟩ := stN
  obtain ⟨τ4, o1, o2, o3, o4⟩ := m_needI E n3 n4 (dN σ (nR σ 0) 9 = -1) t0 R0.2.1 (r := 2) (why := 4) (by omega) (by decide) (d := e' + 1) (by omega)
  obtain ⟨τ5, v1, v2, v3, v4⟩ := m_needI E o3 o4 (dN σ (nR σ 1) 2 = -1 ∨ isB (σ fW_parents 0) (σ fW_kindOf 0 (dN σ (nR σ 1) 2)) 1 = false) t1 R1.2.1 (r := 2) (why := 4) (by omega) (by decide) (d := e' + 1) (by omega)
  rw [← ecA, ← ecB] at v4
  have s158 : m_askWay_158 (e' + 1) τ4 (if dN σ (nR σ 1) 2 = -1 ∨ isB (σ fW_parents 0) (σ fW_kindOf 0 (dN σ (nR σ 1) 2)) 1 = false then 0 else 1) = some (0, τ5) := by
    rw [e_m_askWay_158, o3 fM_placeRun (by decide), ck_ok _ R1.1, o3 fM_runFrom (by decide), v1]; rfl
  have s90 : m_askWay_90 (e' + 1) τ3 = some (0, τ5) := by
    rw [e_m_askWay_90, n3 fM_what (by decide), m_meansRun E n3 R0.2.2.2 R0.1 R0.2.1 R0.2.2.1 (by omega), mN_dN (s := 9) (by omega)]
    simp only [Option.bind_some]
    rw [if_app (m_askWay_110 (e' + 1) τ3), e_m_askWay_110, n3 fM_what (by decide), ck_ok _ R0.1, n3 fM_runFrom (by decide)]
    show ((c_m_need (e' + 1) τ3 (if dN σ (nR σ 0) 9 = -1 then 0 else 1) 4 (τ fM_runFrom 0 (τ fM_what 0 0))).bind _) = _
    rw [o1]
    simp only [Option.bind_some]
    rw [o3 fM_placeRun (by decide), m_meansRun E o3 R1.2.2.2 R1.1 R1.2.1 R1.2.2.1 (by omega), mN_dN (s := 2) (by omega)]
    simp only [Option.bind_some]
    show (if dN σ (nR σ 1) 2 = -1 then _ else _) = _
    by_cases y : dN σ (nR σ 1) 2 = -1
    · rw [if_pos (Or.inl y)] at s158
      rw [if_pos y, e_m_askWay_157, s158]
    · have mk := m_isKind E o3 (o := dN σ (nR σ 1) 2) (by omega) 1 (d := e' + 1) (by omega)
      have mk' : c_m_isBelow (e' + 1) τ4 (τ4 fM_kindOf 0 (dN σ (nmT σ (σ fR_runFrom 0 1) (σ fR_runTo 0 1)) 2)) 1 = some (b2i (isB (σ fW_parents 0) (σ fW_kindOf 0 (dN σ (nR σ 1) 2)) 1), τ4) := mk
      have b24 : 0 ≤ dN σ (nR σ 1) 2 ∧ dN σ (nR σ 1) 2 < 24 := by omega
      rw [if_neg y, ck_ok (i := dN σ (nmT σ (σ fR_runFrom 0 1) (σ fR_runTo 0 1)) 2) _ b24, mk']
      simp only [Option.bind_some]
      cases q : isB (σ fW_parents 0) (σ fW_kindOf 0 (dN σ (nR σ 1) 2)) 1 with
      | true =>
        rw [if_neg (fun w => by rcases w with w | w; exact y w; rw [q] at w; cases w)] at s158
        rw [if_neg b2i_n, s158]
      | false =>
        rw [if_pos (Or.inr q)] at s158
        rw [if_pos b2i_f, e_m_askWay_157, s158]
  have hM : c_m_asked (e' + 1 + 1 + 1) τ first = some (0, τ5) := by
    rw [e_m_asked, ht]
    iterate 14 rw [if_neg (by decide)]
    rw [if_pos rfl]
    show ((c_m_askWay (e' + 1 + 1) (a0 τ)).bind _) = _
    rw [m1, n1, s90]; rfl
  have v4' : GT τ5 (min (min (min (min (min 1000000 cA) cB) cC) cO) cD) := by
    rw [min5_eq cMD]; exact v4
  refine ⟨σ10, τ5, _, hC, hM, l3, v3, l4, v4', (fr_trans (fr_sub (k0_fr σ) (by decide)) (fr_trans (fr_sub f17 (by decide)) (fr_trans (fr_sub j2 (by decide)) (fr_sub l2 (by decide))))), (fr_trans (fr_sub (a0_fr τ) (by decide)) (fr_trans (fr_sub m2 (by decide)) (fr_trans (fr_sub n2 (by decide)) (fr_trans (fr_sub o2 (by decide)) (fr_sub v2 (by decide)))))), fun z => ?_⟩
  obtain ⟨hA, hB, hCc, hMm⟩ := min5_all cMD z
  rw [ecA] at hA
  rw [ecB] at hB
  rw [ecC] at hCc
  rw [ecM] at hMm
  have yA := no_if hA x2.2
  have yB := no_if hB x3.2
  refine ⟨?_, ?_, yA, ?_, yB, ?_⟩
  · by_cases w : 1 < σ fR_names 0 0
    · rw [if_pos w] at hCc
      have tn1 := frB_t (RU_of E.1 (hn 1 (by omega) w) (by omega)).2.2.2
      have := cd_r E.2.1 tn1 (r := 2) (by omega)
      omega
    · omega
  · rw [l2 _ (by decide), j2 _ (by decide), i2 _ (by decide), g2 _ (by decide), f5 _ (by decide), b2 _ (by decide), e3, up_eq]
  · rw [l2 _ (by decide), j2 _ (by decide), i2 _ (by decide), g2 _ (by decide), e5, up_eq]
  · by_cases w : fnd σ (nN σ 0) 0 = -1
    · rw [if_pos w] at hMm
      have v := nwCd_1 E.2.1 tn hMm
      exact Or.inl ⟨w, v.1, v.2⟩
    · rw [if_neg w] at hMm
      have yM := no_if hMm x4.2
      exact Or.inr yM

/-! a phrase, component, whole -/
section
variable {σ0 τ0 : ga_S} {f : Int} {N : Nat}
theorem k_phrase {σ : ga_S} (E : E0 σ0 τ0 f N) (I : IN σ0) (K : KC σ0 σ) {c : Int} (hF : FT σ c) {a b R i j ik nk s : Int} (P : peR (σ0 fT_kinds 0) R τ0 f N a b i j) (hR : σ fR_runs 0 0 = R) (hI : σ fR_itKind 0 0 = ik) (hn : σ fR_nounKind 0 0 = nk) (kI : kO σ0 ik) (kN : kO σ0 nk) (hs : 0 ≤ s) (hD : inD σ0 s) {d : Nat} (hd : 10 ≤ d) : ∃ σ3 σ', c_r_phrase d σ s a b = some (0, σ') ∧ pRw σ3 τ0 f a b i j ∧ σ3 fT_kinds 0 = σ0 fT_kinds 0 ∧ fr phcL σ σ' ∧ KC σ0 σ' ∧ sKp s σ σ' ∧ σ' fR_runs 0 0 = R ∧ rKeepC σ σ' ∧ FT σ' (min c (phCd σ0 ik nk σ3 a b)) ∧ phRw σ0 ik nk σ3 a b s σ' := by
  obtain ⟨d, rfl⟩ : ∃ e, d = e + 1 := ⟨d - 1, by omega⟩
  obtain ⟨⟨ha, hT, hb, hj, hi⟩, P2, P3⟩ := P
  have hab := hT.1
  have hN := E.1.2.2.1
  have le := FT_le hF
  obtain ⟨σ1, e1⟩ : ∃ x, x = ga_up σ fR_bad 0 0 (-1) := ⟨_, rfl⟩
  have f1 : fr [fR_bad] σ σ1 := by rw [e1]; exact fr_u (by decide)
  have K1 := KC_f K f1 (by decide)
  obtain ⟨σ3, a1, a2, a3, a4, a5, a6⟩ := P2 σ1 (K1.2.1 _ (by decide)) (by rw [e1, up_eq]) (by rw [f1 _ (by decide)]; exact hR) d (by omega)
  have K3 := KC_f K1 a2 (by decide)
  have kk3 : σ3 fT_kinds 0 = σ0 fT_kinds 0 := K3.2.1 _ (by decide)
  have F3 : FT σ3 c := FT_f (FT_f hF f1 (by decide)) a2 (by decide)
  have rk3 : rKeepC σ σ3 := fun i hi => by
    have := a5 i (by rw [f1 _ (by decide)]; exact hi)
    rw [f1 fR_runFrom (by decide), f1 fR_runTo (by decide)] at this
    exact this
  obtain ⟨σ4, e4⟩ : ∃ x, x = ga_up (ga_up (ga_up σ3 fS_not s 0 0) fS_thing s 0 (-1)) fS_length s 0 0 := ⟨_, rfl⟩
  have f4 : fr [fS_not, fS_thing, fS_length] σ3 σ4 := by rw [e4]; exact fr_trans (fr_trans (fr_u (by decide)) (fr_u (by decide))) (fr_u (by decide))
  have s34 : sKp s σ3 σ4 := by rw [e4]; exact sKp_t (sKp_t (sKp_u _ _ _ _ _) (sKp_u _ _ _ _ _)) (sKp_u _ _ _ _ _)
  have s4 : sKp s σ σ4 := sKp_t (sKp_f f1 (by decide)) (sKp_t (sKp_f a2 (by decide)) s34)
  have K4 := KC_s K3 f4 (by decide) s34 hD
  have F4 := FT_f F3 f4 (by decide)
  have fr4 : fr phcL σ σ4 := fr_trans (fr_sub f1 (by decide)) (fr_trans (fr_sub a2 (by decide)) (fr_sub f4 (by decide)))
  have fin : ∀ {L : List Nat} {σ'}, fr L σ4 σ' → fR_runs ∉ L ∧ fR_runFrom ∉ L ∧ fR_runTo ∉ L → σ' fR_runs 0 0 = R ∧ rKeepC σ σ' := by
    intro L σ' h hL
    refine ⟨by rw [h _ hL.1, f4 _ (by decide)]; exact a4, fun i hi => ?_⟩
    rw [h _ hL.2.1, h _ hL.2.2, f4 _ (by decide), f4 _ (by decide)]
    exact rk3 i hi
  have iI : ∀ {L : List Nat} {σ'}, fr L σ4 σ' → fR_itKind ∉ L ∧ fR_nounKind ∉ L → σ' fR_itKind 0 0 = ik ∧ σ' fR_nounKind 0 0 = nk := by
    intro L σ' h hL
    rw [h _ hL.1, h _ hL.2, f4 _ (by decide), f4 _ (by decide), a2 _ (by decide), a2 _ (by decide), f1 _ (by decide), f1 _ (by decide)]
    exact ⟨hI, hn⟩
  have hp4 := iI (fr_refl [] σ4) (by decide)
  have ka := E.1.2.2.2.1 a ha (by omega)
  have pRw0 := a6
  obtain ⟨r1, r2, a6⟩ := a6
  have run0 := e_r_phrase d σ s a b
  rw [← e1, a1] at run0
  simp only [Option.bind_some] at run0
  rw [nn_ok _ hs, nn_ok _ hs, nn_ok _ hs, ck_ok _ (by omega), kk3, nn_ok _ ka.1, ← e4, s_p_ord (by omega) _ _ ka.1] at run0
  simp only [Option.bind_some] at run0
  rw [kk3] at a6
  rcases a6 with h | h | h | h | h | h
  · -- say
    obtain ⟨h1, h2, h3, h4, h5⟩ := h
    have tk := E.2.1.2.1 (a + 1) (by omega) (by omega)
    have t2 := E.2.1.2.2.2.2.2 (a + 1) (by omega) (by omega) h4
    have sz := E.2.1.1.1
    have eP : σ4 fT_places 0 (a + 1) = σ0 fT_places 0 (a + 1) := by rw [K4.2.1 _ (by decide)]
    have eL : σ4 fT_lengths 0 (a + 1) = σ0 fT_lengths 0 (a + 1) := by rw [K4.2.1 _ (by decide)]
    obtain ⟨σ5, e5⟩ : ∃ x, x = ga_up (ga_up (ga_up σ4 fS_what s 0 8) fS_value s 0 (σ0 fT_places 0 (a + 1) + 1)) fS_length s 0 (σ0 fT_lengths 0 (a + 1) - 2) := ⟨_, rfl⟩
    have f5 : fr [fS_what, fS_value, fS_length] σ4 σ5 := by rw [e5]; exact fr_trans (fr_trans (fr_u (by decide)) (fr_u (by decide))) (fr_u (by decide))
    have s5 : sKp s σ4 σ5 := by rw [e5]; exact sKp_t (sKp_t (sKp_u _ _ _ _ _) (sKp_u _ _ _ _ _)) (sKp_u _ _ _ _ _)
    have l5 : σ5 fS_length s 0 = σ0 fT_lengths 0 (a + 1) - 2 := by rw [e5, up_eq]
    have K5 := KC_s K4 f5 (by decide) s5 hD
    have F5 := FT_f F4 f5 (by decide)
    obtain ⟨σ6, g1, g2, g3⟩ := k_isSaid E I kN (p := saP σ0 a) (e := saE σ0 a) (by unfold saE; omega) (by unfold saP; omega) K5 (by rw [f5 _ (by decide)]; exact hp4.2) (d := d) (by omega)
    have ev : sdV σ0 (σ0 fT_bytes 0) nk (saE σ0 a) (saE σ0 a - saP σ0 a).toNat (saP σ0 a) = saV σ0 nk a := rfl
    rw [ev] at g1
    have F6 := FT_f F5 g2 (by decide)
    have pc : phCd σ0 ik nk σ3 a b = if saV σ0 nk a = true then 1000000 else cd σ0 (a + 1) 4 := by unfold phCd; rw [if_pos h1]
    have f46 : fr (fS_what :: fS_value :: fS_length :: (inL ++ spL)) σ4 σ6 := fr_trans (fr_sub f5 (by decide)) (fr_sub g2 (by decide))
    have row : ∀ σ', fr ntL σ6 σ' → phRw σ0 ik nk σ3 a b s σ' := by
      intro σ' hh
      refine Or.inl ⟨h1, ?_, ?_, ?_⟩
      · rw [hh _ (by decide), g2 _ (by decide), e5, up_F (by decide), up_F (by decide), up_eq]
      · rw [hh _ (by decide), g2 _ (by decide), e5, up_F (by decide), up_eq]; rfl
      · rw [hh _ (by decide), g2 _ (by decide), e5, up_eq]
    refine ⟨σ3, ?_⟩
    rw [run0, if_pos h1, nn_ok _ hs, w32_ok (x := a + 1) (by omega), ck_ok _ (by omega), nn_ok _ hs, ck_ok _ (by omega), nn_ok _ hs, nn_ok _ hs, nn_ok _ hs, nn_ok _ hs, eP, eL, w32_ok (by omega), w32_ok (by omega), ← e5, up_eq, l5, w32_ok (by omega)]
    have g1' : c_r_isSaid d σ5 (σ0 fT_places 0 (a + 1) + 1) (σ0 fT_places 0 (a + 1) + 1 + (σ0 fT_lengths 0 (a + 1) - 2)) = some (b2i (saV σ0 nk a), σ6) := g1
    rw [g1', pc]
    simp only [Option.bind_some]
    cases hv : saV σ0 nk a with
    | true =>
      have fi := fin f46 (by decide)
      rw [if_neg b2i_n, if_pos rfl, Int.min_eq_left le]
      exact ⟨σ6, rfl, pRw0, kk3, fr_trans fr4 (fr_sub f46 (by decide)), g3, sKp_t s4 (sKp_t s5 (sKp_f g2 (by decide))), fi.1, fi.2, F6, row σ6 (fr_refl _ _)⟩
    | false =>
      obtain ⟨σ7, x1, x2, x3⟩ := k_note E.2.1 hN g3 F6 (t := a + 1) (r := 4) (why := 8) (by omega) (by omega) (by decide) (d := d) (by omega)
      have f47 : fr (fS_what :: fS_value :: fS_length :: (inL ++ ndL)) σ4 σ7 := fr_trans (fr_sub f46 (by decide)) (fr_sub x2 (by decide))
      have fi := fin f47 (by decide)
      rw [if_pos b2i_f, x1, if_neg (by decide)]
      exact ⟨σ7, rfl, pRw0, kk3, fr_trans fr4 (fr_sub f47 (by decide)), KC_f g3 x2 (by decide), sKp_t s4 (sKp_t s5 (sKp_t (sKp_f g2 (by decide)) (sKp_f x2 (by decide)))), fi.1, fi.2, x3, row σ7 x2⟩
  · -- now
    obtain ⟨h1, h2, h3⟩ := h
    obtain ⟨σ5, σ6, b1, b2, b3, b4, b5, b6, b7, b8, b9, b10⟩ := k_test E K4 F4 (s := s) (now := true) (P3 h1) (by rw [f4 _ (by decide)]; exact a4) hp4.1 hp4.2 kI kN hs hD (d := d) (by omega)
    have b1' : c_r_test d σ4 s (a + 1) b 1 = some (0, σ6) := b1
    have pc : phCd σ0 ik nk σ5 a b = teCd σ0 ik nk true σ5 (a + 1) b := by unfold phCd; rw [if_neg (by omega), if_pos h1]
    refine ⟨σ5, ?_⟩
    rw [run0, if_neg (by omega), if_pos h1, w32_ok (by omega), b1', pc]
    refine ⟨σ6, rfl, ⟨r1, r2, Or.inr (Or.inl ⟨by rw [b3]; exact h1, h2, b2.1⟩)⟩, b3, fr_trans fr4 (fr_sub b4 (by decide)), b5, sKp_t s4 b6, b7, fun i hi => ?_, b9, Or.inr (Or.inl ⟨h1, b10, b2.2 rfl⟩)⟩
    have x := b8 i (by rw [f4 _ (by decide), a4, ← hR]; exact hi)
    have y := rk3 i hi
    rw [f4 fR_runFrom (by decide), f4 fR_runTo (by decide)] at x
    exact ⟨x.1.trans y.1, x.2.trans y.2⟩
  · -- move
    obtain ⟨h1, h2, h3, h4, h5, h6⟩ := h
    have t3 := thE_k h3 kk3
    have t4 := thE_k h4 kk3
    have S3 := thE_S (N := N) t3 (by omega) (by omega)
    have S4 := thE_S (N := N) t4 (by omega) (by omega)
    obtain ⟨σ5, e5⟩ : ∃ x, x = ga_up σ4 fS_what s 0 9 := ⟨_, rfl⟩
    have f5 : fr [fS_what] σ4 σ5 := by rw [e5]; exact fr_u (by decide)
    have s5 : sKp s σ4 σ5 := by rw [e5]; exact sKp_u _ _ _ _ _
    have K5 := KC_s K4 f5 (by decide) s5 hD
    have F5 := FT_f F4 f5 (by decide)
    obtain ⟨σ6, g1, g2, g3, g4⟩ := k_thingOf E K5 F5 S3 (ik := ik) (nk := nk) (by rw [f5 _ (by decide)]; exact hp4.1) (by rw [f5 _ (by decide)]; exact hp4.2) (d := d) (by omega)
    have f46 : fr (fS_what :: ndL) σ4 σ6 := fr_trans (fr_sub f5 (by decide)) (fr_sub g2 (by decide))
    have hp6 := iI f46 (by decide)
    obtain ⟨σ7, x1, x2, x3, x4⟩ := k_thingOf E g3 g4 S4 hp6.1 hp6.2 (d := d) (by omega)
    have f47 : fr (fS_what :: ndL) σ4 σ7 := fr_trans f46 (fr_sub x2 (by decide))
    have hp7 := iI f47 (by decide)
    have gV : thV σ0 ik nk (σ3 fR_placeFrom 0 0) (σ3 fR_placeTo 0 0) = pmV σ0 ik nk σ3 := rfl
    have xV : thV σ0 ik nk (σ3 fR_thingFrom 0 0) (σ3 fR_thingTo 0 0) = teV σ0 ik nk σ3 := rfl
    rw [gV] at g1
    rw [xV] at x1
    have vr : pmV σ0 ik nk σ3 = -1 ∨ thO σ0 ik nk (pmV σ0 ik nk σ3) := thV_r E ik nk _ _
    have g37 : ∀ G, G ∉ [fS_not, fS_thing, fS_length] → G ∉ (fS_what :: ndL) → σ7 G = σ3 G := fun G x y => (f47 G y).trans (f4 G x)
    have pc : phCd σ0 ik nk σ3 a b = min (min (thC σ0 ik nk (σ3 fR_placeFrom 0 0) (σ3 fR_placeTo 0 0)) (thC σ0 ik nk (σ3 fR_thingFrom 0 0) (σ3 fR_thingTo 0 0))) (mvC σ0 ik nk σ3) := by unfold phCd; rw [if_neg (by omega), if_neg (by omega), if_pos h1]
    obtain ⟨V, eV⟩ : ∃ x, x = pmV σ0 ik nk σ3 := ⟨_, rfl⟩
    obtain ⟨W, eW⟩ : ∃ x, x = teV σ0 ik nk σ3 := ⟨_, rfl⟩
    rw [← eV] at g1 vr
    rw [← eW] at x1
    -- the end
    have last : ∀ (σ8 : ga_S) (c8 : Int), fr (fS_what :: ndL) σ4 σ8 → KC σ0 σ8 → sKp s σ σ8 → FT σ8 c8 → σ8 fS_what s 0 = 9 → ∃ σ', r_phrase_268 d σ8 s V W = some (0, σ') ∧ pRw σ3 τ0 f a b i j ∧ σ3 fT_kinds 0 = σ0 fT_kinds 0 ∧ fr phcL σ σ' ∧ KC σ0 σ' ∧ sKp s σ σ' ∧ σ' fR_runs 0 0 = R ∧ rKeepC σ σ' ∧ FT σ' c8 ∧ phRw σ0 ik nk σ3 a b s σ' := by
      intro σ8 c8 f8 K8 s8 F8 w8
      obtain ⟨σ9, e9⟩ : ∃ x, x = ga_up (ga_up σ8 fS_thing s 0 V) fS_other s 0 W := ⟨_, rfl⟩
      have f9 : fr [fS_thing, fS_other] σ8 σ9 := by rw [e9]; exact fr_trans (fr_u (by decide)) (fr_u (by decide))
      have s9 : sKp s σ8 σ9 := by rw [e9]; exact sKp_t (sKp_u _ _ _ _ _) (sKp_u _ _ _ _ _)
      have f49 : fr (fS_thing :: fS_other :: fS_what :: ndL) σ4 σ9 := fr_trans (fr_sub f8 (by decide)) (fr_sub f9 (by decide))
      have fi := fin f49 (by decide)
      refine ⟨σ9, by rw [e_r_phrase_268, nn_ok _ hs, nn_ok _ hs, ← e9], pRw0, kk3, fr_trans fr4 (fr_sub f49 (by decide)), KC_s K8 f9 (by decide) s9 hD, sKp_t s8 s9, fi.1, fi.2, FT_f F8 f9 (by decide), Or.inr (Or.inr (Or.inl ⟨h1, ?_, ?_, ?_⟩))⟩
      · rw [f9 _ (by decide)]; exact w8
      · rw [e9, up_F (by decide), up_eq]; exact eV
      · rw [e9, up_eq]; exact eW
    have s7 : sKp s σ σ7 := sKp_t s4 (sKp_t s5 (sKp_t (sKp_f g2 (by decide)) (sKp_f x2 (by decide))))
    have w7 : σ7 fS_what s 0 = 9 := by rw [x2 _ (by decide), g2 _ (by decide), e5, up_eq]
    have le7 := FT_le x4
    refine ⟨σ3, ?_⟩
    rw [run0, if_neg (by omega), if_neg (by omega), if_pos h1, nn_ok _ hs, f4 fR_placeFrom (by decide), f4 fR_placeTo (by decide), ← e5, g1]
    simp only [Option.bind_some]
    rw [f46 fR_thingFrom (by decide), f46 fR_thingTo (by decide), f4 fR_thingFrom (by decide), f4 fR_thingTo (by decide), x1]
    simp only [Option.bind_some]
    rw [pc, ← Int.min_assoc, ← Int.min_assoc]
    unfold mvC
    rw [← eV]
    by_cases v1 : V = -1
    · rw [if_pos v1, if_pos v1, Int.min_eq_left le7]
      exact last σ7 _ f47 x3 s7 x4 w7
    · have tv := vr.resolve_left v1
      have kr := kdT_r E kI kN tv
      have hFO : FO (σ7 fW_parents 0) (σ0 fW_kinds 0 0) := by rw [x3.1 _ (by decide)]; exact (e0_k E).1
      rw [if_neg v1, if_neg v1, k_kindOf E x3 hp7.1 hp7.2 tv (by omega)]
      simp only [Option.bind_some]
      rw [s_w_isBelow hFO (by omega) 0 (by omega) kr.2, x3.1 fW_parents (by decide)]
      simp only [Option.bind_some]
      cases ib : isB (σ0 fW_parents 0) (kdT σ0 ik nk V) 0 with
      | true =>
        rw [if_neg b2i_n, if_pos rfl, Int.min_eq_left le7]
        exact last σ7 _ f47 x3 s7 x4 w7
      | false =>
        have pf7 : σ7 fR_placeFrom 0 0 = σ3 fR_placeFrom 0 0 := by rw [g37 _ (by decide) (by decide)]
        have kk7 : σ7 fT_kinds 0 = σ0 fT_kinds 0 := x3.2.1 _ (by decide)
        obtain ⟨⟨q1, q2, q3⟩, q4⟩ := id S3
        have kp := E.1.2.2.2.1 (σ3 fR_placeFrom 0 0) q1 (by omega)
        have tw := thW_t S3
        obtain ⟨σ8, y1, y2, y3⟩ := k_note E.2.1 hN x3 x4 (t := thW σ0 (σ3 fR_placeFrom 0 0) (σ3 fR_placeTo 0 0)) (r := 2) (why := 4) tw (by omega) (by decide) (d := d) (by omega)
        have s264 : ∀ z : Int, σ3 fR_placeFrom 0 0 + z = thW σ0 (σ3 fR_placeFrom 0 0) (σ3 fR_placeTo 0 0) → r_phrase_264 d σ7 s V W z (σ3 fR_placeFrom 0 0) 4 = r_phrase_268 d σ8 s V W := by
          intro z ez
          rw [e_r_phrase_264, ez, w32_ok (by omega), y1]
          rfl
        have main : ∃ z : Int, (if b2i (decide (9 ≤ σ0 fT_kinds 0 (σ3 fR_placeFrom 0 0) ∧ σ0 fT_kinds 0 (σ3 fR_placeFrom 0 0) ≤ 12)) = 0 then r_phrase_263 d σ7 s V W (σ3 fR_placeFrom 0 0) 4 else ((c_r_isFree d σ7 (w32 (σ7 fR_placeFrom 0 0 + 1))).bind fun q15 => if q15.1 = 0 then r_phrase_263 d q15.2 s V W (σ3 fR_placeFrom 0 0) 4 else r_phrase_264 d q15.2 s V W 1 (σ3 fR_placeFrom 0 0) 4)) = r_phrase_268 d σ8 s V W := by
          refine ⟨0, ?_⟩
          by_cases u1 : 9 ≤ σ0 fT_kinds 0 (σ3 fR_placeFrom 0 0) ∧ σ0 fT_kinds 0 (σ3 fR_placeFrom 0 0) ≤ 12
          · have ar : artN σ0 (σ3 fR_placeFrom 0 0) = 1 := by unfold artN; rw [if_pos u1]
            rw [decide_eq_true u1, if_neg b2i_n, pf7, w32_ok (by omega), s_r_isFree (by omega) (by omega), kk7]
            simp only [Option.bind_some]
            by_cases u2 : σ0 fT_kinds 0 (σ3 fR_placeFrom 0 0 + 1) = 0
            · rw [decide_eq_true u2, if_neg b2i_n]
              refine s264 1 ?_
              unfold thW
              have n2 : ¬ σ0 fT_kinds 0 (σ3 fR_placeTo 0 0 - 1) = 62 := by
                intro v
                obtain ⟨ss, tt, q5, q6, q7, q8, q9⟩ := t3
                rcases q9 with w | w | w
                · omega
                · rcases w.2.2.1 with y | y
                  · have : σ3 fR_placeTo 0 0 - 1 = σ3 fR_placeFrom 0 0 := by omega
                    rw [this] at v; omega
                  · have : σ3 fR_placeTo 0 0 - 1 = σ3 fR_placeFrom 0 0 + 1 := by omega
                    rw [this] at v; omega
                · obtain ⟨w1, cc, w2, w3, w4, _⟩ := w
                  have := w4 (σ3 fR_placeTo 0 0 - 1) (by omega) (by omega)
                  omega
              rw [if_neg (by omega), if_neg n2, ar]
            · rw [decide_eq_false u2, if_pos b2i_f, e_r_phrase_263]
              refine s264 0 ?_
              unfold thW
              rw [if_neg (by omega)]
              by_cases n2 : σ0 fT_kinds 0 (σ3 fR_placeTo 0 0 - 1) = 62
              · rw [if_pos n2]; omega
              · exfalso
                rcases q4 with y | y | y
                · omega
                · exact n2 y
                · have := y.2.2.2.2 (σ3 fR_placeFrom 0 0 + 1) (by omega) (by omega)
                  exact u2 this
          · have ar : artN σ0 (σ3 fR_placeFrom 0 0) = 0 := by unfold artN; rw [if_neg u1]
            rw [decide_eq_false u1, if_pos b2i_f, e_r_phrase_263]
            refine s264 0 ?_
            unfold thW
            rw [ar]
            split
            · omega
            · split <;> omega
        obtain ⟨_, main⟩ := main
        rw [if_pos b2i_f, pf7, ck_ok _ (by omega), kk7, nn_ok _ kp.1, s_k_isArticle (by omega)]
        simp only [Option.bind_some]
        rw [main, if_neg (by decide)]
        exact last σ8 _ (fr_trans f47 (fr_sub y2 (by decide))) (KC_f x3 y2 (by decide)) (sKp_t s7 (sKp_f y2 (by decide))) y3 (by rw [y2 _ (by decide)]; exact w7)
  · -- increase, decrease
    obtain ⟨h1, h2, h3, h4, h5, h6, h7, h8⟩ := h
    have t3 := thE_k h3 kk3
    have S3 := thE_S (N := N) t3 (by omega) (by omega)
    have p2 := rnR_B E.1 (rnR_k h2 kk3)
    have xV : thV σ0 ik nk (σ3 fR_thingFrom 0 0) (σ3 fR_thingTo 0 0) = teV σ0 ik nk σ3 := rfl
    obtain ⟨σ5, g1, g2, g3, g4⟩ := k_thingOf E K4 F4 S3 hp4.1 hp4.2 (d := d) (by omega)
    rw [xV] at g1
    have vr : teV σ0 ik nk σ3 = -1 ∨ thO σ0 ik nk (teV σ0 ik nk σ3) := thV_r E ik nk _ _
    obtain ⟨σ6, e6⟩ : ∃ x, x = ga_up σ5 fS_thing s 0 (teV σ0 ik nk σ3) := ⟨_, rfl⟩
    have f6 : fr [fS_thing] σ5 σ6 := by rw [e6]; exact fr_u (by decide)
    have s6 : sKp s σ5 σ6 := by rw [e6]; exact sKp_u _ _ _ _ _
    have K6 := KC_s g3 f6 (by decide) s6 hD
    have F6 := FT_f g4 f6 (by decide)
    have f46 : fr (fS_thing :: ndL) σ4 σ6 := fr_trans (fr_sub g2 (by decide)) (fr_sub f6 (by decide))
    have hp6 := iI f46 (by decide)
    have G6 : ∀ G, G ∉ (fS_thing :: ndL) → G ∉ [fS_not, fS_thing, fS_length] → σ6 G = σ3 G := fun G x y => (f46 G x).trans (f4 G y)
    obtain ⟨σ7, x1, x2, x3, x4, x5, x6⟩ := k_property E K6 F6 (s := s) hp6.1 hp6.2 kI kN vr p2 (by rw [G6 _ (by decide) (by decide)]) (by rw [G6 _ (by decide) (by decide)]) hs hD true (d := d) (by omega)
    have x1' : c_r_property d σ6 s (teV σ0 ik nk σ3) 1 = some (0, σ7) := x1
    have kk7 : σ7 fT_kinds 0 = σ0 fT_kinds 0 := x3.2.1 _ (by decide)
    have bf7 : σ7 fR_behindFrom 0 0 = σ3 fR_behindFrom 0 0 := by rw [x2 _ (by decide), G6 _ (by decide) (by decide)]
    obtain ⟨w, ew⟩ : ∃ x : Int, x = if σ0 fT_kinds 0 a = 55 then 10 else 11 := ⟨_, rfl⟩
    obtain ⟨σ8, e8⟩ : ∃ x, x = ga_up σ7 fS_what s 0 w := ⟨_, rfl⟩
    have f8 : fr [fS_what] σ7 σ8 := by rw [e8]; exact fr_u (by decide)
    have s8 : sKp s σ7 σ8 := by rw [e8]; exact sKp_u _ _ _ _ _
    have K8 := KC_s x3 f8 (by decide) s8 hD
    obtain ⟨σ9, e9⟩ : ∃ x, x = ga_up σ8 fS_value s 0 (nuT σ0 (σ3 fR_behindFrom 0 0)) := ⟨_, rfl⟩
    have f9 : fr [fS_value] σ8 σ9 := by rw [e9]; exact fr_u (by decide)
    have s9 : sKp s σ8 σ9 := by rw [e9]; exact sKp_u _ _ _ _ _
    have y328 : r_phrase_328 d σ7 s w s = some (0, σ9) := by
      rw [e_r_phrase_328, nn_ok _ hs, ← e8, bf7, k_number E K8 (by omega) h5 (by omega)]
      simp only [Option.bind_some]
      rw [nn_ok _ hs, ← e9]
    have body : ((c_r_thingOf d σ4 (σ4 fR_thingFrom 0 0) (σ4 fR_thingTo 0 0)).bind fun q7 => ga_nn s (ga_nn s ((c_r_property d (ga_up q7.2 fS_thing s 0 q7.1) s ((ga_up q7.2 fS_thing s 0 q7.1) fS_thing s 0) 1).bind fun q8 => (c_r_is d q8.2 a 55).bind fun q9 => if q9.1 = 0 then r_phrase_328 d q9.2 s 11 s else r_phrase_328 d q9.2 s 10 s))) = some (0, σ9) := by
      rw [f4 fR_thingFrom (by decide), f4 fR_thingTo (by decide), g1]
      simp only [Option.bind_some]
      rw [nn_ok _ hs, nn_ok _ hs, up_eq, ← e6, x1']
      simp only [Option.bind_some]
      rw [s_r_is (by omega) (by omega), kk7]
      simp only [Option.bind_some]
      by_cases z : σ0 fT_kinds 0 a = 55
      · rw [if_pos z] at ew
        rw [decide_eq_true z, if_neg b2i_n, ← ew, y328]
      · rw [if_neg z] at ew
        rw [decide_eq_false z, if_pos b2i_f, ← ew, y328]
    have pc : phCd σ0 ik nk σ3 a b = min (thC σ0 ik nk (σ3 fR_thingFrom 0 0) (σ3 fR_thingTo 0 0)) (if tePr σ0 ik nk σ3 true = true then 1000000 else cd σ0 (σ3 fR_propertyFrom 0 0) 2) := by
      unfold phCd
      rw [if_neg (by omega), if_neg (by omega), if_neg (by omega), if_pos (by omega)]
    have f49 : fr (fS_what :: fS_value :: fS_which :: fS_thing :: ndL) σ4 σ9 := fr_trans (fr_sub f46 (by decide)) (fr_trans (fr_sub x2 (by decide)) (fr_trans (fr_sub f8 (by decide)) (fr_sub f9 (by decide))))
    have fi := fin f49 (by decide)
    have ft : FT σ9 (min (min c (thC σ0 ik nk (σ3 fR_thingFrom 0 0) (σ3 fR_thingTo 0 0))) (if tePr σ0 ik nk σ3 true = true then 1000000 else cd σ0 (σ3 fR_propertyFrom 0 0) 2)) := FT_f (FT_f x5 f8 (by decide)) f9 (by decide)
    refine ⟨σ3, σ9, ?_, pRw0, kk3, fr_trans fr4 (fr_sub f49 (by decide)), KC_s K8 f9 (by decide) s9 hD, sKp_t s4 (sKp_t (sKp_f g2 (by decide)) (sKp_t s6 (sKp_t x4 (sKp_t s8 s9)))), fi.1, fi.2, by rw [pc, ← Int.min_assoc]; exact ft, Or.inr (Or.inr (Or.inr (Or.inl ⟨?_, ?_, ?_, ?_⟩)))⟩
    · rw [run0, if_neg (by omega), if_neg (by omega), if_neg (by omega)]
      by_cases z : σ0 fT_kinds 0 a = 55
      · rw [if_pos z]; exact body
      · rw [if_neg z, if_pos (by omega)]; exact body
    · have w9 : σ9 fS_what s 0 = w := by rw [f9 _ (by decide), e8, up_eq]
      by_cases z : σ0 fT_kinds 0 a = 55
      · rw [if_pos z] at ew
        exact Or.inl ⟨z, by rw [w9]; exact ew⟩
      · rw [if_neg z] at ew
        exact Or.inr ⟨by omega, by rw [w9]; exact ew⟩
    · rw [f9 _ (by decide), f8 _ (by decide), x2 _ (by decide), e6, up_eq]
    · rw [f9 _ (by decide), f8 _ (by decide)]; exact x6
    · rw [e9, up_eq]
  · -- stop
    obtain ⟨h1, h2⟩ := h
    obtain ⟨σ5, e5⟩ : ∃ x, x = ga_up σ4 fS_what s 0 13 := ⟨_, rfl⟩
    have f5 : fr [fS_what] σ4 σ5 := by rw [e5]; exact fr_u (by decide)
    have s5 : sKp s σ4 σ5 := by rw [e5]; exact sKp_u _ _ _ _ _
    have pc : phCd σ0 ik nk σ3 a b = 1000000 := by unfold phCd; rw [if_neg (by omega), if_neg (by omega), if_neg (by omega), if_neg (by omega), if_pos h1]
    have fi := fin f5 (by decide)
    refine ⟨σ3, σ5, ?_, pRw0, kk3, fr_trans fr4 (fr_sub f5 (by decide)), KC_s K4 f5 (by decide) s5 hD, sKp_t s4 s5, fi.1, fi.2, ?_, Or.inr (Or.inr (Or.inr (Or.inr (Or.inl ⟨h1, by rw [e5, up_eq]⟩))))⟩
    · rw [run0, if_neg (by omega), if_neg (by omega), if_neg (by omega), if_neg (by omega), if_neg (by omega), if_pos h1, nn_ok _ hs, ← e5]
    · rw [pc, Int.min_eq_left le]; exact FT_f F4 f5 (by decide)
  · -- try
    obtain ⟨h1, h2, h3, h4, h5⟩ := h
    have p2 := rnR_B E.1 (rnR_k h3 kk3)
    obtain ⟨σ5, e5⟩ : ∃ x, x = ga_up σ4 fS_what s 0 12 := ⟨_, rfl⟩
    have f5 : fr [fS_what] σ4 σ5 := by rw [e5]; exact fr_u (by decide)
    have s5 : sKp s σ4 σ5 := by rw [e5]; exact sKp_u _ _ _ _ _
    have K5 := KC_s K4 f5 (by decide) s5 hD
    have F5 := FT_f F4 f5 (by decide)
    have G5 : ∀ G, G ∉ [fS_what] → G ∉ [fS_not, fS_thing, fS_length] → σ5 G = σ3 G := fun G x y => (f5 G x).trans (f4 G y)
    obtain ⟨σ6, g1, g2, g3, g4, g5, g6⟩ := k_trying E K5 F5 (ik := ik) (nk := nk) (s := s) (σ3 := σ3) ⟨by rw [G5 _ (by decide) (by decide)], by rw [G5 _ (by decide) (by decide)], by rw [G5 _ (by decide) (by decide)], by rw [G5 _ (by decide) (by decide)]⟩ (by rw [f5 _ (by decide)]; exact hp4.1) (by rw [f5 _ (by decide)]; exact hp4.2) hs hD p2 h3.2.2.2.2.1 (by
      rcases h5 with y | y
      · exact Or.inl y.1
      · exact Or.inr ⟨by omega, thE_S (N := N) (thE_k y.2.2.1 kk3) (by omega) (by omega)⟩) (d := d) (by omega)
    have pc : phCd σ0 ik nk σ3 a b = tyC σ0 ik nk σ3 := by unfold phCd; rw [if_neg (by omega), if_neg (by omega), if_neg (by omega), if_neg (by omega), if_neg (by omega)]
    have f46 : fr (fS_what :: fS_which :: fS_thing :: fR_actionFound :: fR_objectFound :: ndL) σ4 σ6 := fr_trans (fr_sub f5 (by decide)) (fr_sub g2 (by decide))
    have fi := fin f46 (by decide)
    refine ⟨σ3, σ6, ?_, pRw0, kk3, fr_trans fr4 (fr_sub f46 (by decide)), g3, sKp_t s4 (sKp_t s5 g4), fi.1, fi.2, by rw [pc]; exact g5, Or.inr (Or.inr (Or.inr (Or.inr (Or.inr ⟨h1, ?_, g6⟩))))⟩
    · rw [run0, if_neg (by omega), if_neg (by omega), if_neg (by omega), if_neg (by omega), if_neg (by omega), if_neg (by omega), if_pos h1, nn_ok _ hs, ← e5, g1]
      rfl
    · rw [g2 _ (by decide), e5, up_eq]
end

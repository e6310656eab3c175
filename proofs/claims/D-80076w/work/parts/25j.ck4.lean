/-! check of sort 7: a verb -/
theorem k_withS {σ : ga_S} {nm : List Int} (A : AT σ nm) {d : Nat} (hd : 2 ≤ d) : ∃ σ', c_d_withS d σ = some (0, σ') ∧ fr spL σ σ' ∧ AT σ' (nm ++ [115]) := by
  obtain ⟨d, rfl⟩ : ∃ e, d = e + 1 := ⟨d - 1, by omega⟩
  obtain ⟨σ2, e1, e2, e3⟩ := SPd_put (σ := σ) (σ1 := σ) (L := nm) ⟨fr_refl _ _, A⟩ (d := d) (by omega) (b := 115) (by omega)
  rw [e_d_withS, e1]
  exact ⟨σ2, rfl, e2, e3⟩
theorem pack_s {w : List Int} : pack (w ++ [115]) = 32 * pack w + 19 := by
  unfold pack
  rw [packF_app]
  rfl
theorem wsT_1 {σ : ga_S} {a b : Int} (h : b = a + 1) : wsT σ 0 a b = [wT σ 0 a] := by
  unfold wsT
  rw [h, rg_s (by omega), rg_n (Int.le_refl _)]
  rfl
/-- a verb's word is new, with its s -/
def vbN (σ : ga_S) (a b : Int) : Bool := decide (b - a ≤ 1 ∧ fnd σ (nmT σ a b ++ [115]) 0 = -1) && nB σ (wsT σ 0 a b) []
section
variable {σ τ : ga_S} {f : Int} {N : Nat}
theorem m_verbNew {τ1 : ga_S} (E : E0 σ τ f N) (K : KM τ τ1) (hQ : nwQ σ τ f N τ1) (hT : nwM σ τ f τ1 = []) (hn : τ1 fM_news 0 0 = 0) {a b : Int} (hr : RU σ τ f N 0 a b) (hab : a < b) {d : Nat} (hd : 3 ≤ d) : c_m_askVerb (d + 1) τ1 = (if vbN σ a b = true then m_askVerb_62 d τ1 (f + a) else m_askVerb_66 d τ1 (f + a)) := by
  have hr' := hr
  obtain ⟨r0, r1, r2, hb⟩ := hr'
  have rf : τ1 fM_runFrom 0 0 = f + a := by rw [K _ (by decide)]; exact r1
  have rs : τ1 fM_runSize 0 0 = b - a := by rw [K _ (by decide)]; exact r2
  have hf0 := E.1.1
  have hN := E.1.2.1
  have i1 := hb.1
  have i3 := hb.2.2.1
  have wd : τ1 fM_word = τ fM_word := K _ (by decide)
  rw [e_m_askVerb, rs, rf]
  by_cases c1 : b - a = 1
  · have eb : b = a + 1 := by omega
    have tk := E.2.1.2.2.2.1 a i1 (by omega) (hb.2.2.2 a (Int.le_refl _) hab)
    have W := wsT_1 (σ := σ) eb
    have nmw : nmT σ a b = wT σ 0 a := by unfold nmT; rw [W]; rfl
    have isn := m_isNew E K hQ (by omega) hr hd
    rw [hT] at isn
    rw [if_pos c1, isn]
    simp only [Option.bind_some]
    cases q : nB σ (wsT σ 0 a b) [] with
    | false =>
      have v : vbN σ a b = false := by unfold vbN; rw [q, Bool.and_false]
      rw [if_pos b2i_f, v, if_neg (by decide)]
    | true =>
      rw [if_neg b2i_n, ck_ok _ (by omega), wd, tk.2.2.2]
      have pr := pack_lt tk.1
      have p12 := pack_12 tk.1 tk.2.2.1
      by_cases c2 : (wT σ 0 a).length ≤ 11
      · have p11 := pack_11 tk.1 c2
        rw [if_pos ((lshr55 pr.1 p12).mpr p11), ck_ok _ (by omega), lor5 pr.1 (by omega) (by omega) (by omega), ← pack_s]
        have R := RD_m (KM_lex K) E.2.2.1
        have sW : wsW [wT σ 0 a ++ [115]] := by
          intro w hw
          rw [List.mem_singleton] at hw
          subst hw
          refine ⟨fun c hc => ?_, by simp, by rw [List.length_append]; simp; omega⟩
          rcases List.mem_append.mp hc with z | z
          · exact tk.1 c z
          · rw [List.mem_singleton] at z; omega
        have fd := RD_find R (Q := [wT σ 0 a ++ [115]]) sW (by simp) (by simp) (a := pack (wT σ 0 a ++ [115])) (b := 0) (c := 0) rfl (fun z => absurd z (by simp)) (fun z => absurd z (by simp))
        rw [jn1] at fd
        have ff := s_m_find (τ := τ1) (d := d) (by omega) R.2.2.1 (pack (wT σ 0 a ++ [115])) 0 0 1
        rw [ff]
        simp only [Option.bind_some]
        by_cases c3 : fnd σ (wT σ 0 a ++ [115]) 0 = -1
        · have v : vbN σ a b = true := by
            unfold vbN
            rw [q, decide_eq_true ⟨by omega, by rw [nmw]; exact c3⟩]; rfl
          rw [if_pos (show mfI τ1 (pack (wT σ 0 a ++ [115])) 0 0 1 0 = -1 from fd.1 c3), v, if_pos rfl]
        · have v : vbN σ a b = false := by
            unfold vbN
            rw [decide_eq_false (fun z => c3 (by rw [← nmw]; exact z.2))]; rfl
          have := fd.2 c3
          rw [if_neg (show ¬ mfI τ1 (pack (wT σ 0 a ++ [115])) 0 0 1 0 = -1 from fun z => by have y := this.1; rw [show ((([wT σ 0 a ++ [115]] : List (List Int)).length : Nat) : Int) = 1 from rfl, z] at y; omega), v, if_neg (by decide)]
      · have l12 : (wT σ 0 a).length = 12 := by have := tk.2.2.1; omega
        have pg := pack_ge tk.1 tk.2.1
        rw [l12] at pg
        have v : vbN σ a b = true := by
          unfold vbN
          rw [q, Bool.and_true]
          apply decide_eq_true
          refine ⟨by omega, ?_⟩
          refine Classical.byContradiction fun z => ?_
          rw [nmw] at z
          have y := (e0_l E [wT σ 0 a] (fun x hx => by rw [List.mem_singleton] at hx; subst hx; exact ⟨tk.1, tk.2.1, tk.2.2.1⟩) l12 z).1
          unfold nB at q
          have q' := of_decide_eq_true q
          rw [W] at q'
          exact y (by have := q'.2.1; rw [jn1] at this; exact this)
        rw [if_neg (fun z => by have := (lshr55 pr.1 p12).mp z; have e : (32 : Int) ^ (12 - 1) = 36028797018963968 := by decide
                                rw [e] at pg; omega), v, if_pos rfl]
  · have v : vbN σ a b = false := by
      unfold vbN
      rw [decide_eq_false (fun z => by have := z.1; omega)]; rfl
    rw [if_neg c1, v, if_neg (by decide)]
theorem ck_7 (E : E0 σ τ f N) (hf : σ fR_fault 0 0 = 0) (hm : τ fM_runs 0 0 ≤ 2600) (hs : σ fR_sort 0 0 = 7) (ht : τ fM_sort 0 0 = 7) (r0 : rr σ τ f 0 0) (r1 : rr σ τ f 1 1) {d : Nat} (hd : 8 ≤ d) (first : Int) : ckX σ τ (c_r_check d σ) (c_m_asked d τ first) (fun σ' _ => σ' fR_kind0 0 0 = dN σ (nR σ 1) 6 ∧ dN σ (nR σ 1) 6 ≠ -1 ∧ vbN σ (σ fR_runFrom 0 0) (σ fR_runTo 0 0) = true ∧ σ fW_verbs 0 0 < 8) := by
  obtain ⟨d, rfl⟩ : ∃ e, d = e + 1 := ⟨d - 1, by omega⟩
  obtain ⟨e, rfl⟩ : ∃ e, d = e + 1 := ⟨d - 1, by omega⟩
  obtain ⟨K1, F1, O1, q1, S1, _⟩ := k0_ok hf N
  obtain ⟨M1, G1, Q1, p1, T1, _⟩ := a0_ok σ τ f N
  have R0 := RU_of E.1 r0 hm
  have R1 := RU_of E.1 r1 hm
  have t0 := frB_t R0.2.2.2
  have t1 := frB_t R1.2.2.2
  have wb := e0_b E
  have hN5 := E.1.2.2.1
  have b0 := R0.2.2.2.1
  have b2 := R0.2.2.2.2.2.1
  have lt := r0.2.2.2.2.1
  obtain ⟨g, eg⟩ : ∃ g, g = vbN σ (σ fR_runFrom 0 0) (σ fR_runTo 0 0) := ⟨_, rfl⟩
  -- the component
  obtain ⟨σ2, a1, a2, a3⟩ := k_spell E K1 R0.2.2.2 (d := e + 1) (by omega)
  obtain ⟨σ3, c1, c2, c3⟩ := k_withS a3 (d := e + 1) (by omega)
  have f13 : fr spL (k0 σ) σ3 := fr_trans a2 c2
  have K3 := KC_f K1 f13 (by decide)
  have F3 := FT_f F1 f13 (by decide)
  have O3 : nwO σ N σ3 := by unfold nwO; rw [f13 _ (by decide), f13 _ (by decide), f13 _ (by decide)]; exact O1
  have S3 : nwC σ σ3 = [] := by rw [← S1]; unfold nwC; rw [f13 _ (by decide), f13 _ (by decide), f13 _ (by decide)]
  have q3 : σ3 fR_newNames 0 0 = 0 := by rw [f13 _ (by decide)]; exact q1
  have rf : σ3 fR_runFrom = σ fR_runFrom := (f13 _ (by decide)).trans (k0_fr σ _ (by decide))
  have rt : σ3 fR_runTo = σ fR_runTo := (f13 _ (by decide)).trans (k0_fr σ _ (by decide))
  have mid : ∃ σ4, (if 1 < σ fR_runTo 0 0 - σ fR_runFrom 0 0 then r_check_293 (e + 1) σ3 else (c_d_find (e + 1) σ3).bind fun q24 => if q24.1 = -1 then (c_r_isNew (e + 1) q24.2 (q24.2 fR_runFrom 0 0) (q24.2 fR_runTo 0 0) (q24.2 fW_verbs 0 0) 8).bind (fun q25 => r_check_332 (e + 1) q25.2) else r_check_293 (e + 1) q24.2) = r_check_332 (e + 1) σ4 ∧ fr nwL σ3 σ4 ∧ KC σ σ4 ∧ FT σ4 (min 1000000 (nwCd σ g (σ fW_verbs 0 0) 8 (σ fR_runFrom 0 0))) := by
    have bad : g = false → ∃ σ4, r_check_293 (e + 1) σ3 = r_check_332 (e + 1) σ4 ∧ fr nwL σ3 σ4 ∧ KC σ σ4 ∧ FT σ4 (min 1000000 (nwCd σ g (σ fW_verbs 0 0) 8 (σ fR_runFrom 0 0))) := by
      intro hg
      obtain ⟨σ4, i1, i2, i3⟩ := k_note E.2.1 hN5 K3 F3 (t := σ fR_runFrom 0 0) (r := 1) (why := 3) t0 (by omega) (by decide) (d := e + 1) (by omega)
      refine ⟨σ4, ?_, fr_sub i2 (by decide), KC_f K3 i2 (by decide), ?_⟩
      · rw [e_r_check_293, rf, i1]
        simp only [Option.bind_some]
      · unfold nwCd; rw [hg, if_neg (by decide)]; exact i3
    by_cases z1 : 1 < σ fR_runTo 0 0 - σ fR_runFrom 0 0
    · rw [if_pos z1]
      refine bad ?_
      rw [eg]; unfold vbN
      rw [decide_eq_false (fun z => by have := z.1; omega)]; rfl
    · rw [if_neg z1, k_find E K3 c3 (by omega)]
      simp only [Option.bind_some]
      by_cases z2 : fnd σ (nmT σ (σ fR_runFrom 0 0) (σ fR_runTo 0 0) ++ [115]) 0 = -1
      · obtain ⟨σ4, i1, i2, i3, i4, _⟩ := k_isNew E K3 F3 O3 (by omega) R0.2.2.2 (σ fW_verbs 0 0) 8 (d := e + 1) (by omega)
        rw [S3] at i4
        have hg : g = nB σ (wsT σ 0 (σ fR_runFrom 0 0) (σ fR_runTo 0 0)) [] := by
          rw [eg]; unfold vbN
          rw [decide_eq_true ⟨by omega, z2⟩, Bool.true_and]
        rw [if_pos z2, rf, rt, show σ3 fW_verbs = σ fW_verbs from K3.1 _ (by decide), i1]
        simp only [Option.bind_some]
        rw [hg]
        exact ⟨σ4, rfl, i2, i3, i4⟩
      · rw [if_neg z2]
        refine bad ?_
        rw [eg]; unfold vbN
        rw [decide_eq_false (fun z => z2 z.2)]; rfl
  obtain ⟨σ4, d1, d2, d3, d4⟩ := mid
  have rf4 : σ4 fR_runFrom = σ fR_runFrom := (d2 _ (by decide)).trans rf
  have rt4 : σ4 fR_runTo = σ fR_runTo := (d2 _ (by decide)).trans rt
  obtain ⟨σ5, g1, g2, g3, g4⟩ := k_need E d3 d4 R1.2.2.2 (d := e + 1) (by omega) 6
  obtain ⟨σ6, e6⟩ : ∃ x, x = ga_up σ5 fR_kind0 0 0 (dN σ (nR σ 1) 6) := ⟨_, rfl⟩
  have f6 : fr [fR_kind0] σ5 σ6 := by rw [e6]; exact fr_u (by decide)
  have hC : c_r_check (e + 1 + 1) σ = some (0, σ6) := by
    rw [e_r_check, hs]
    iterate 7 rw [if_neg (by decide)]
    rw [if_pos rfl]
    show ((c_d_spellT (e + 1) (k0 σ) _ _ _).bind _) = _
    rw [a1]
    simp only [Option.bind_some]
    rw [c1]
    simp only [Option.bind_some]
    rw [rf, rt, w32_ok (by omega), d1, e_r_check_332, rf4, rt4, g1]
    simp only [Option.bind_some]
    rw [e6]; rfl
  -- the model
  have hv := m_verbNew E M1 Q1 T1 p1 R0 lt (d := e) (by omega)
  have fin : ∀ (τ3 : ga_S) (x : Int), KM τ τ3 → GT τ3 x → ∃ τ5, (c_m_meansRun e τ3 1 8).bind (fun q5 => if q5.1 = -1 then m_askVerb_117 e q5.2 0 else m_askVerb_117 e q5.2 1) = some (0, τ5) ∧ fr ntM τ3 τ5 ∧ KM τ τ5 ∧ GT τ5 (min x (if dN σ (nR σ 1) 6 = -1 then cd σ (σ fR_runFrom 0 1) 2 else 1000000)) := by
    intro τ3 x k3 k4
    obtain ⟨τ5, o1, o2, o3, o4⟩ := m_needI E k3 k4 (dN σ (nR σ 1) 6 = -1) t1 R1.2.1 (r := 2) (why := 4) (by omega) (by decide) (d := e) (by omega)
    refine ⟨τ5, ?_, o2, o3, o4⟩
    rw [m_meansRun E k3 R1.2.2.2 R1.1 R1.2.1 R1.2.2.1 (by omega), mN_dN (s := 6) (by omega)]
    simp only [Option.bind_some]
    rw [if_app (m_askVerb_117 e τ3), e_m_askVerb_117, k3 fM_runFrom (by decide)]
    show ((c_m_need e τ3 (if dN σ (nR σ 1) 6 = -1 then 0 else 1) 4 (τ fM_runFrom 0 1)).bind _) = _
    rw [o1]; rfl
  have mm : ∃ τ5, c_m_askVerb (e + 1) (a0 τ) = some (0, τ5) ∧ fr ntM (a0 τ) τ5 ∧ KM τ τ5 ∧ GT τ5 (min (min 1000000 (nwCd σ g (σ fW_verbs 0 0) 8 (σ fR_runFrom 0 0))) (if dN σ (nR σ 1) 6 = -1 then cd σ (σ fR_runFrom 0 1) 2 else 1000000)) := by
    rw [hv, ← eg]
    cases hg : g with
    | false =>
      obtain ⟨τ2, n1, n2, n3, n4⟩ := m_need E M1 G1 (t := σ fR_runFrom 0 0) (t' := f + σ fR_runFrom 0 0) (r := 1) (why := 3) (g := 0) t0 rfl (by omega) (by decide) (d := e) (by omega)
      obtain ⟨τ3, o1, o2, o3, o4⟩ := m_need E n3 n4 (t := σ fR_runFrom 0 0) (t' := f + σ fR_runFrom 0 0) (r := 0) (why := 9) (g := 1) t0 rfl (by omega) (by decide) (d := e) (by omega)
      obtain ⟨τ5, u1, u0, u2, u3⟩ := fin τ3 _ o3 o4
      refine ⟨τ5, ?_, fr_trans n2 (fr_trans o2 u0), u2, ?_⟩
      · rw [if_neg (by decide), e_m_askVerb_66, e_m_askVerb_67, n1]
        simp only [Option.bind_some]
        rw [if_pos trivial, e_m_askVerb_89, e_m_askVerb_94, o1]
        simp only [Option.bind_some]
        exact u1
      · unfold nwCd
        rw [if_neg (by decide)]
        rw [if_pos rfl, if_neg (by decide)] at u3
        have := GT_le n4
        rw [if_pos rfl] at this
        rw [show ∀ x : Int, min (min 1000000 x) 1000000 = min 1000000 x from fun x => by omega] at u3
        exact u3
    | true =>
      obtain ⟨τ2, n1, n2, n3, n4⟩ := m_need E M1 G1 (t := σ fR_runFrom 0 0) (t' := f + σ fR_runFrom 0 0) (r := 1) (why := 3) (g := 1) t0 rfl (by omega) (by decide) (d := e) (by omega)
      rw [if_neg (by decide)] at n4
      obtain ⟨τ3, o1, o2, o3, o4⟩ := m_needI E n3 n4 (¬ σ fW_verbs 0 0 < 8) t0 (t' := f + σ fR_runFrom 0 0) rfl (r := 0) (why := 9) (by omega) (by decide) (d := e) (by omega)
      obtain ⟨τ5, u1, u0, u2, u3⟩ := fin τ3 _ o3 o4
      refine ⟨τ5, ?_, fr_trans n2 (fr_trans o2 u0), u2, ?_⟩
      · rw [if_pos rfl, e_m_askVerb_62, e_m_askVerb_67, n1]
        simp only [Option.bind_some]
        rw [if_neg (by decide), show τ2 fM_verbs 0 0 = σ fW_verbs 0 0 by rw [n3 _ (by decide)]; exact wb.2.2.1]
        by_cases z : σ fW_verbs 0 0 < 8
        · rw [if_neg (fun y => y z)] at o1
          rw [if_pos z, e_m_askVerb_89, e_m_askVerb_94, o1]
          simp only [Option.bind_some]
          exact u1
        · rw [if_pos z] at o1
          rw [if_neg z, e_m_askVerb_94, o1]
          simp only [Option.bind_some]
          exact u1
      · unfold nwCd
        rw [if_pos rfl]
        by_cases z : σ fW_verbs 0 0 < 8
        · rw [if_neg (fun y => y z)] at u3
          rw [if_pos z]; exact u3
        · rw [if_pos z] at u3
          rw [if_neg z]; exact u3
  obtain ⟨τ5, u1, u0, u2, u3⟩ := mm
  have hM : c_m_asked (e + 1 + 1) τ first = some (0, τ5) := by
    rw [e_m_asked, ht]
    iterate 7 rw [if_neg (by decide)]
    rw [if_pos rfl]
    show ((c_m_askVerb (e + 1) (a0 τ)).bind _) = _
    rw [u1]; rfl
  refine ⟨σ6, τ5, _, hC, hM, KC_f g3 f6 (by decide), u2, FT_f g4 f6 (by decide), u3, (fr_trans (fr_sub (k0_fr σ) (by decide)) (fr_trans (fr_sub f13 (by decide)) (fr_trans (fr_sub d2 (by decide)) (fr_trans (fr_sub g2 (by decide)) (fr_sub f6 (by decide)))))), (fr_trans (fr_sub (a0_fr τ) (by decide)) (fr_sub u0 (by decide))), fun z => ?_⟩
  have z1 := no_min rfl z (by omega)
  have z2 := no_min rfl z1.1 (Int.le_refl _)
  have y := nwCd_1 E.2.1 t0 z2.2
  refine ⟨by rw [e6, up_eq], no_if z1.2 (cd_r E.2.1 t1 (by omega)).2, by rw [← eg]; exact y.1, y.2⟩
end

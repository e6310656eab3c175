/-! the constructors of Turns and Reader -/
def gk_turns (K : Nat → ClassId) (D : va_G) (h w t : Nat) (H : Heap) : Prop := (∃ ty : Nat → FieldType, (∀ k, k < 11 → parseFieldDescriptor (am_T am_Tl_u k).2.2.1 = some (ty k)) ∧ t_OB h (D.1 5) 11 (D.2 5) H (updV (updV (gk_V (fun k => defaultValue (ty k)) (h + 1) it_trn) 0 (.ref w)) 1 (.ref t))) ∧ gk_all K (h + 1) H it_trn
theorem gk_all_kept {K : Nat → ClassId} {H H1 : Heap} : ∀ (its : List gk_it) (h : Nat), gk_all K h H its → (∀ q : Nat, h ≤ q → q < h + gk_tot its → H1[q]? = H[q]?) → gk_all K h H1 its
  | [], _, _, _ => trivial
  | t :: r, h, g, hq => by
    have e : gk_tot (t :: r) = gk_sz (gk_e t) (gk_n t) + gk_tot r := rfl
    exact ⟨gk_ce_kept g.1 (fun q q1 q2 => hq q q1 (by omega)), gk_all_kept r _ g.2 (fun q q1 q2 => hq q (by omega) (by omega))⟩
theorem c_trn {l : Launch} {K : Nat → ClassId} {D : va_G} (h w t : Nat) : gk_C l y_trn 1 60 7 2104 h (h + 1) [.ref w, .ref t] K D (fun U => gk_ob0 D 5 h U.heap) (fun H => H.size = h + 8 ∧ gk_turns K D h w t H) := by
  refine gk_of gd_trn (Nat.le_of_ble_eq_true rfl) (fun p e s m args below meth c ls S hlk hrt hnm hsz hSt hJ hls => ?_)
  obtain ⟨hx, hb, hml, hown, hts⟩ := S
  obtain ⟨C, T, N, ty, j1, j2, j3⟩ := hJ
  cases (show (C, T, N) = ("RuleSentences$Turns", am_T am_Tl_u, 11) from Option.some.inj (j1.symm.trans rfl))
  obtain ⟨hin, hnm2, ty2, hty2⟩ := gk_cls (ci := 5) (C := "RuleSentences$Turns") (T := am_T am_Tl_u) (N := 11) rfl
  refine lv_aload_n hx hb (k := 0) (by decide +kernel) rfl (lv_at hls 0 rfl) ?_
  refine W.objInit hx hb hown (hts _ (gk_in_tb wo_trn)) (hts _ (gk_in_tb jw_1_26)) (hts _ (gk_in_tb gk_obi)) rfl (by rw [hml]; exact hls.1) rfl (show decode y_trn.2.1 1 = _ by decide +kernel) (Nat.le_of_ble_eq_true rfl) (Nat.le_of_ble_eq_true rfl) ?_
  refine gk_its hx hb hown hts hSt.1 hSt.2.1 hSt.2.2.1 rfl hnm (lv_at hls 0 rfl) (A := gk_A h (h + 1)) (Or.inl rfl) (fun q hq => Or.inr (by omega)) 31 it_trn 4 s.heap _ [] 0 0 it_trn_ch it_trn_ck j3 va_S.rf (by rw [it_trn_t.1]; decide) (by rw [it_trn_t.2]; decide) fun H1 locs1 f1 f2 f3 f4 f5 => ?_
  rw [it_trn_t.1, it_trn_t.2]
  rw [it_trn_t.1] at f1
  rw [hsz] at f1 f2 f3 f4
  refine lv_aload_n hx hb (k := 0) (by decide +kernel) rfl (lv_at hls 0 rfl) ?_
  refine lv_aload_n hx hb (k := 1) (by decide +kernel) rfl (lv_at hls 1 rfl) ?_
  have fit1 := gk_fitR (by decide +kernel) (hty2 0 (by decide)) w
  refine gk_WputF (v := .ref w) hx hb hts hin ty2 hty2 hnm2 hown hSt.2.2.1 f3 rfl 0 (by decide) (gk_in_tb (am_at_c (k := 5) (i := 18) rfl rfl)) rfl rfl hnm fit1.1 fit1.2 (index := 24) (by decide +kernel) fun H2 i k1 k2 k3 => ?_
  refine lv_aload_n hx hb (k := 0) (by decide +kernel) rfl (lv_at hls 0 rfl) ?_
  refine lv_aload_n hx hb (k := 2) (by decide +kernel) rfl (lv_at hls 2 rfl) ?_
  have fit2 := gk_fitR (by decide +kernel) (hty2 1 (by decide)) t
  refine gk_WputF (v := .ref t) hx hb hts hin ty2 hty2 hnm2 hown hSt.2.2.1 k1 rfl 1 (by decide) (gk_in_tb (am_at_c (k := 5) (i := 19) rfl rfl)) rfl rfl hnm fit2.1 fit2.2 (index := 28) (by decide +kernel) fun H3 i2 r1 r2 r3 => ?_
  refine gk_vret (F := fun H => H.size = h + 8 ∧ gk_turns K D h w t H) hx hb hrt hlk ⟨by rw [r2, k2, f1], ⟨ty, j2, r1⟩, gk_all_kept _ _ f2 (fun q q1 q2 => by rw [r3 q (by omega), k3 q (by omega)])⟩ ((f5.put k2 k3 (Or.inl rfl)).put r2 r3 (Or.inl rfl)) (show decode y_trn.2.1 41 = _ by decide +kernel)
/-- the reader at h: its step at h + 14, its first draft at h + 15 -/
def gk_reader (K : Nat → ClassId) (D : va_G) (h t w d : Nat) (H : Heap) : Prop := (∃ ty : Nat → FieldType, (∀ k, k < 73 → parseFieldDescriptor (am_T am_Tl_r k).2.2.1 = some (ty k)) ∧ t_OB h (D.1 4) 73 (D.2 4) H (updV (updV (updV (gk_V (updV (updV (gk_V (fun k => defaultValue (ty k)) (h + 1) it_rdr) 61 (.ref (h + 14))) 63 (.ref (h + 15))) (h + 34) it_rdr1) 0 (.ref t)) 1 (.ref w)) 2 (.ref d))) ∧ gk_all K (h + 1) H it_rdr ∧ gk_ob0 D 7 (h + 14) H ∧ gk_rule K D (h + 15) H ∧ gk_all K (h + 34) H it_rdr1
theorem c_rdr {l : Launch} {K : Nat → ClassId} {D : va_G} (h t w d : Nat) (hw : w < h) : gk_C l y_rdr 5 400 35 50186 h (h + 1) [.ref t, .ref w] K D (fun U => gk_ob0 D 4 h U.heap ∧ ∃ V, t_OB w (D.1 1) 47 (D.2 1) U.heap V ∧ V 0 = .ref d) (fun H => H.size = h + 36 ∧ gk_reader K D h t w d H) := by
  refine gk_of gd_rdr (Nat.le_of_ble_eq_true rfl) (fun p e s m args below meth c ls S hlk hrt hnm hsz hSt hJ hls => ?_)
  have S' := S
  obtain ⟨hx, hb, hml, hown, hts⟩ := S'
  obtain ⟨⟨C, T, N, ty, j1, j2, j3⟩, Vw, w1, w2⟩ := hJ
  cases (show (C, T, N) = ("RuleSentences$Reader", am_T am_Tl_r, 73) from Option.some.inj (j1.symm.trans rfl))
  obtain ⟨hin, hnm2, ty2, hty2⟩ := gk_cls (ci := 4) (C := "RuleSentences$Reader") (T := am_T am_Tl_r) (N := 73) rfl
  refine lv_aload_n hx hb (k := 0) (by decide +kernel) rfl (lv_at hls 0 rfl) ?_
  refine W.objInit hx hb hown (hts _ (gk_in_tb wo_rdr)) (hts _ (gk_in_tb jw_1_26)) (hts _ (gk_in_tb gk_obi)) rfl (by rw [hml]; exact hls.1) rfl (show decode y_rdr.2.1 1 = _ by decide +kernel) (Nat.le_of_ble_eq_true rfl) (Nat.le_of_ble_eq_true rfl) ?_
  refine gk_its hx hb hown hts hSt.1 hSt.2.1 hSt.2.2.1 rfl hnm (lv_at hls 0 rfl) (A := gk_A h (h + 1)) (Or.inl rfl) (fun q hq => Or.inr (by omega)) 118 it_rdr 4 s.heap _ [] 0 0 it_rdr_ch it_rdr_ck j3 va_S.rf (by rw [it_rdr_t.1]; decide) (by rw [it_rdr_t.2]; decide) fun H1 locs1 f1 f2 f3 f4 f5 => ?_
  rw [it_rdr_t.1, it_rdr_t.2]
  rw [it_rdr_t.1] at f1
  rw [hsz] at f1 f2 f3 f4
  have z1 : H1.size = h + 14 := f1
  -- the step
  refine lv_aload_n hx hb (k := 0) (by decide +kernel) rfl (lv_at hls 0 rfl) ?_
  refine gk_newc (F := fun h H => H.size = h + 1 ∧ gk_ob0 D 7 h H) (idx := 53) (idx2 := 55) (rest := [.ref h]) S c_stp gd_stp rfl rfl hSt (ci := 7) rfl wk_rdr_stp wn_stp wi_stp (Or.inr ⟨_, wl_rdr_stp⟩) wm_stp wd_stp hls.1 (show 1 + 0 ≤ 7 by decide) (by decide +kernel) (by decide +kernel) (by decide +kernel) ⟨by decide, by decide⟩ ⟨by decide, by decide⟩ f5 (fun q hq => Or.inr (by omega)) fun H2 locs2 g1 g2 g3 g4 => ?_
  rw [z1] at g1 g2 g3
  have fitS := gk_fitR (by decide +kernel) (hty2 61 (by decide)) H1.size
  refine gk_WputF (v := .ref H1.size) hx hb hts hin ty2 hty2 hnm2 hown hSt.2.2.1 (f3.kept (g3 h (by omega))) rfl 61 (by decide) (gk_in_tb (am_at_c (k := 4) (i := 94) rfl rfl)) rfl rfl hnm fitS.1 fitS.2 (index := 56) (by decide +kernel) fun H3 i3 a1 a2 a3 => ?_
  rw [z1] at a1
  have z3 : H3.size = h + 15 := by rw [a2, g1.1]
  -- the first draft
  refine lv_aload_n hx hb (k := 0) (by decide +kernel) rfl (lv_at hls 0 rfl) ?_
  refine gk_newc (F := fun h H => H.size = h + (1 + 18) ∧ gk_rule K D h H) (idx := 60) (idx2 := 62) (rest := [.ref h]) S c_rul gd_rul rfl rfl hSt (ci := 6) rfl wk_rdr_rul wn_rul wi_rul (Or.inl wl_rdr_rul) wm_rul wd_rul hls.1 (show 1 + 0 ≤ 7 by decide) (by decide +kernel) (by decide +kernel) (by decide +kernel) ⟨by decide, by decide⟩ ⟨by decide, by decide⟩ (g4.put a2 a3 (Or.inl rfl)) (fun q hq => Or.inr (by omega)) fun H4 locs4 b1 b2 b3 b4 => ?_
  rw [z3] at b1 b2 b3
  have fitR := gk_fitR (by decide +kernel) (hty2 63 (by decide)) H3.size
  refine ga_Wput (v := .ref H3.size) hx hb hts hin ty2 hty2 hnm2 hown hSt.2.2.1 (a1.kept (b3 h (by omega))) rfl 63 (by decide) (Or.inl (gk_in_tb (am_at_c (k := 4) (i := 96) rfl rfl))) rfl rfl fitR.1 fitR.2 (index := 63) (by decide +kernel) fun H5 i5 c1 c2 c3 => ?_
  rw [z3] at c1
  have z5 : H5.size = h + 34 := by rw [c2, b1.1]
  refine gk_its hx hb hown hts hSt.1 hSt.2.1 hSt.2.2.1 rfl hnm (lv_at hls 0 rfl) (A := gk_A h (h + 1)) (H0 := s.heap) (Or.inl rfl) (fun q hq => Or.inr (by omega)) 156 it_rdr1 140 H5 _ _ _ _ it_rdr1_ch it_rdr1_ck c1 (b4.put c2 c3 (Or.inl rfl)) (by rw [it_rdr1_t.1]; decide) (by rw [it_rdr1_t.2]; decide) fun H6 locs6 d1 d2 d3 d4 d5 => ?_
  rw [it_rdr1_t.1, it_rdr1_t.2]
  rw [it_rdr1_t.1] at d1
  rw [z5] at d1 d2 d3 d4
  -- what it is handed
  refine lv_aload_n hx hb (k := 0) (by decide +kernel) rfl (lv_at hls 0 rfl) ?_
  refine lv_aload_n hx hb (k := 1) (by decide +kernel) rfl (lv_at hls 1 rfl) ?_
  have fit0 := gk_fitR (by decide +kernel) (hty2 0 (by decide)) t
  refine gk_WputF (v := .ref t) hx hb hts hin ty2 hty2 hnm2 hown hSt.2.2.1 d3 rfl 0 (by decide) (gk_in_tb (am_at_c (k := 4) (i := 31) rfl rfl)) rfl rfl hnm fit0.1 fit0.2 (index := 73) (by decide +kernel) fun H7 i7 k1 k2 k3 => ?_
  refine lv_aload_n hx hb (k := 0) (by decide +kernel) rfl (lv_at hls 0 rfl) ?_
  refine lv_aload_n hx hb (k := 2) (by decide +kernel) rfl (lv_at hls 2 rfl) ?_
  have fit1 := gk_fitR (by decide +kernel) (hty2 1 (by decide)) w
  refine gk_WputF (v := .ref w) hx hb hts hin ty2 hty2 hnm2 hown hSt.2.2.1 k1 rfl 1 (by decide) (gk_in_tb (am_at_c (k := 4) (i := 32) rfl rfl)) rfl rfl hnm fit1.1 fit1.2 (index := 77) (by decide +kernel) fun H8 i8 m1 m2 m3 => ?_
  have ow : t_OB w (D.1 1) 47 (D.2 1) H8 Vw := w1.kept (by rw [m3 w (by omega), k3 w (by omega), d4 w (by omega) (by omega), c3 w (by omega), b3 w (by omega), a3 w (by omega), g3 w (by omega), f4 w (by omega) (by omega)])
  refine lv_aload_n hx hb (k := 0) (by decide +kernel) rfl (lv_at hls 0 rfl) ?_
  refine lv_aload_n hx hb (k := 2) (by decide +kernel) rfl (lv_at hls 2 rfl) ?_
  refine gk_Wget (ci := 1) (C := "RuleSentences$World") (T := am_T am_Tl_w) (N := 47) (index := 81) S hSt.2.2.1 ow rfl 0 (by decide) rfl (Or.inr ⟨"RuleSentences", List.mem_append_right _ (am_at_n (pos := 2209) (by decide +kernel) rfl)⟩) (by decide +kernel) ?_
  rw [w2]
  have fit2 := gk_fitR (by decide +kernel) (hty2 2 (by decide)) d
  refine gk_WputF (v := .ref d) hx hb hts hin ty2 hty2 hnm2 hown hSt.2.2.1 m1 rfl 2 (by decide) (gk_in_tb (am_at_c (k := 4) (i := 33) rfl rfl)) rfl rfl hnm fit2.1 fit2.2 (index := 87) (by decide +kernel) fun H9 i9 r1 r2 r3 => ?_
  have kp : ∀ q : Nat, q < h + 34 → q ≠ h → H9[q]? = H5[q]? := fun q q1 q2 => by rw [r3 q q2, m3 q q2, k3 q q2, d4 q q1 q2]
  refine W.widen (k := 35) (n := 50186) (by decide) (by decide) ?_
  refine gk_vret (F := fun H => H.size = h + 36 ∧ gk_reader K D h t w d H) hx hb hrt hlk ⟨by rw [r2, m2, k2, d1], ⟨ty, j2, r1⟩, ?_, ?_, ?_, ?_⟩ ((((d5.put k2 k3 (Or.inl rfl)).put m2 m3 (Or.inl rfl))).put r2 r3 (Or.inl rfl)) (show decode y_rdr.2.1 174 = _ by decide +kernel)
  · refine gk_all_kept _ _ f2 (fun q q1 q2 => ?_)
    rw [it_rdr_t.1] at q2
    rw [kp q (by omega) (by omega), c3 q (by omega), b3 q (by omega), a3 q (by omega), g3 q (by omega)]
  · exact gk_ob0_kept g1.2 (by rw [kp _ (by omega) (by omega), c3 _ (by omega), b3 _ (by omega), a3 _ (by omega)])
  · exact gk_rule_kept b1.2 (fun q q1 q2 => by rw [kp q (by omega) (by omega), c3 q (by omega)])
  · refine gk_all_kept _ _ d2 (fun q q1 q2 => ?_)
    rw [r3 q (by omega), m3 q (by omega), k3 q (by omega)]

/-! the constructor of Rule -/
/-- a rule at h, its arrays and steps behind it -/
def gk_rule (K : Nat → ClassId) (D : va_G) (h : Nat) (H : Heap) : Prop := (∃ ty : Nat → FieldType, (∀ k, k < 11 → parseFieldDescriptor (am_T am_Tl_q k).2.2.1 = some (ty k)) ∧ t_OB h (D.1 6) 11 (D.2 6) H (gk_V (fun k => defaultValue (ty k)) (h + 1) it_rul)) ∧
  H[h + 1]? = some (arrV (K 0) 8 (fun _ => .int 0)) ∧ H[h + 2]? = some (arrV (K 0) 8 (fun _ => .int 0)) ∧ H[h + 3]? = some (arrV (K 5) 6 (fun j => if j < 6 then .ref (h + 5 + j * 1) else .null)) ∧ H[h + 4]? = some (arrV (K 5) 8 (fun j => if j < 8 then .ref (h + 11 + j * 1) else .null)) ∧ (∀ j, j < 6 → gk_ob0 D 7 (h + 5 + j * 1) H) ∧ ∀ j, j < 8 → gk_ob0 D 7 (h + 11 + j * 1) H
theorem gk_rule_kept {K : Nat → ClassId} {D : va_G} {h : Nat} {H H1 : Heap} (g : gk_rule K D h H) (hq : ∀ q : Nat, h ≤ q → q < h + 19 → H1[q]? = H[q]?) : gk_rule K D h H1 := by
  obtain ⟨⟨ty, t1, t2⟩, g1, g2, g3, g4, g5, g6⟩ := g
  exact ⟨⟨ty, t1, t2.kept (hq h (by omega) (by omega))⟩, by rw [hq _ (by omega) (by omega)]; exact g1, by rw [hq _ (by omega) (by omega)]; exact g2, by rw [hq _ (by omega) (by omega)]; exact g3, by rw [hq _ (by omega) (by omega)]; exact g4,
    fun j hj => gk_ob0_kept (g5 j hj) (hq _ (by omega) (by omega)), fun j hj => gk_ob0_kept (g6 j hj) (hq _ (by omega) (by omega))⟩
theorem c_rul {l : Launch} {K : Nat → ClassId} {D : va_G} (h : Nat) : gk_C l y_rul 3 200 18 128 h (h + 1) [] K D (fun U => gk_ob0 D 6 h U.heap) (fun H => H.size = h + (1 + 18) ∧ gk_rule K D h H) := by
  refine gk_of gd_rul (Nat.le_of_ble_eq_true rfl) (fun p e s m args below meth c ls S hlk hrt hnm hsz hSt hJ hls => ?_)
  have S' := S
  obtain ⟨hx, hb, hml, hown, hts⟩ := S'
  obtain ⟨C, T, N, ty, j1, j2, j3⟩ := hJ
  cases (show (C, T, N) = ("RuleSentences$Rule", am_T am_Tl_q, 11) from Option.some.inj (j1.symm.trans rfl))
  refine lv_aload_n hx hb (k := 0) (by decide +kernel) rfl (lv_at hls 0 rfl) ?_
  refine W.objInit hx hb hown (hts _ (gk_in_tb wo_rul)) (hts _ (gk_in_tb jw_1_26)) (hts _ (gk_in_tb gk_obi)) rfl (by rw [hml]; exact hls.1) rfl (show decode y_rul.2.1 1 = _ by decide +kernel) (Nat.le_of_ble_eq_true rfl) (Nat.le_of_ble_eq_true rfl) ?_
  refine gk_its hx hb hown hts hSt.1 hSt.2.1 hSt.2.2.1 rfl hnm (lv_at hls 0 rfl) (A := gk_A h (h + 1)) (Or.inl rfl) (fun q hq => Or.inr (by omega)) 38 it_rul 4 s.heap _ [] 0 0 it_rul_ch it_rul_ck j3 va_S.rf (by rw [it_rul_t.1]; decide) (by rw [it_rul_t.2]; decide) fun H1 locs1 f1 f2 f3 f4 f5 => ?_
  rw [it_rul_t.1, it_rul_t.2]
  rw [it_rul_t.1] at f1
  rw [hsz] at f1 f2 f3
  obtain ⟨a1, a2, a3, a4, -⟩ := f2
  have b1 : H1[h + 1]? = some (arrV (K 0) 8 (fun _ => .int 0)) := a1
  have b2 : H1[h + 2]? = some (arrV (K 0) 8 (fun _ => .int 0)) := a2
  have b3 : H1[h + 3]? = some (arrV (K 5) 6 (fun _ => .null)) := a3
  have b4 : H1[h + 4]? = some (arrV (K 5) 8 (fun _ => .null)) := a4
  refine gk_push hx hb (n := 0) (len := 1) (by decide +kernel) (by decide) ?_
  refine lv_istore_n hx hb (k := 1) (i := 1) (by decide +kernel) rfl hls (by decide) rfl fun ls1 hls1 => ?_
  refine gk_fill (G := fun h H => gk_ob0 D 7 h H) (a := h) (b := h + 3) (kf := 8) (fi := 20) (C0 := "RuleSentences$Rule") (T0 := am_T am_Tl_q) (N0 := 11) (c0 := 6) (ci := 7) (e0 := 5) (N := 6) (L := 40) (c1 := 0 + 4) (s1 := 0 + 30) (h0 := h + 5) (H9 := H1) (off1 := 22) (off2 := -22) (A := gk_A h (h + 1)) (H0 := s.heap) S c_stp gd_stp rfl rfl hSt rfl wk_rul_stp wn_stp wi_stp (Or.inr ⟨_, wl_rul_stp⟩) wm_stp wd_stp hSt.1.2.1 (by decide) rfl rfl (by decide) rfl (Or.inl (gk_in_tb (am_at_c (k := 1) (i := 156) rfl rfl))) rfl (by omega) (by decide) (by decide)
    (fun h H H' g q => gk_ob0_kept g (q h (by omega) (by omega))) (fun h H g => by
      obtain ⟨C, T, N, ty, _, _, cell, q1, q2, q3, _⟩ := g
      exact ⟨cell, q1, q2, q3⟩)
    (by decide +kernel) (by decide +kernel) (by decide +kernel) rfl (by decide +kernel) (by decide +kernel) (by decide +kernel) (by decide +kernel) (by decide +kernel) (by decide +kernel) (by decide +kernel) (by decide +kernel) (by decide +kernel) rfl
    ⟨by decide, by decide⟩ (fun q hq => Or.inr (by omega)) (Or.inr (by omega)) (by omega) (by omega) (by decide) (by decide)
    (fun H2 locs2 ls2 hls2 g1 g2 g3 g4 g5 => ?_) 6 0 rfl H1 locs1 ls1 hls1 (by omega) ?_ (fun j hj => by omega) (fun q _ _ => rfl) f3 f5
  · refine gk_push hx hb (n := 0) (len := 1) (by decide +kernel) (by decide) ?_
    refine lv_istore_n hx hb (k := 1) (i := 1) (by decide +kernel) rfl hls2 (by decide) rfl fun ls3 hls3 => ?_
    have o2 : t_OB h (D.1 6) 11 (D.2 6) H2 (gk_V (fun k => defaultValue (ty k)) (h + 1) it_rul) := f3.kept (g4 h (by omega) (by omega))
    have b42 : H2[h + 4]? = some (arrV (K 5) 8 (fun _ => .null)) := by rw [g4 (h + 4) (by omega) (by omega)]; exact b4
    refine gk_fill (G := fun h H => gk_ob0 D 7 h H) (a := h) (b := h + 4) (kf := 10) (fi := 24) (C0 := "RuleSentences$Rule") (T0 := am_T am_Tl_q) (N0 := 11) (c0 := 6) (ci := 7) (e0 := 5) (N := 8) (L := 67) (c1 := 10) (s1 := 72) (h0 := h + 11) (H9 := H2) (off1 := 22) (off2 := -22) (A := gk_A h (h + 1)) (H0 := s.heap) S c_stp gd_stp rfl rfl hSt rfl wk_rul_stp wn_stp wi_stp (Or.inr ⟨_, wl_rul_stp⟩) wm_stp wd_stp hSt.1.2.1 (by decide) rfl rfl (by decide) rfl (Or.inl (gk_in_tb (am_at_c (k := 1) (i := 163) rfl rfl))) rfl (by omega) (by decide) (by decide)
      (fun h H H' g q => gk_ob0_kept g (q h (by omega) (by omega))) (fun h H g => by
        obtain ⟨C, T, N, ty, _, _, cell, q1, q2, q3, _⟩ := g
        exact ⟨cell, q1, q2, q3⟩)
      (by decide +kernel) (by decide +kernel) (by decide +kernel) rfl (by decide +kernel) (by decide +kernel) (by decide +kernel) (by decide +kernel) (by decide +kernel) (by decide +kernel) (by decide +kernel) (by decide +kernel) (by decide +kernel) rfl
      ⟨by decide, by decide⟩ (fun q hq => Or.inr (by omega)) (Or.inr (by omega)) (by omega) (by omega) (by decide) (by decide)
      (fun H3 locs3 ls4 hls4 k1 k2 k3 k4 k5 => ?_) 8 0 rfl H2 locs2 ls3 hls3 (by omega) ?_ (fun j hj => by omega) (fun q _ _ => rfl) o2 g5
    · refine W.widen (k := 18) (n := 128) (by decide) (by decide) ?_
      refine gk_vret (F := fun H => H.size = h + (1 + 18) ∧ gk_rule K D h H) hx hb hrt hlk ⟨by omega, ⟨ty, j2, o2.kept (k4 h (by omega) (by omega))⟩, ?_, ?_, ?_, k2, fun j hj => ?_, fun j hj => k3 j hj⟩ k5 (show decode y_rul.2.1 92 = _ by decide +kernel)
      · rw [k4 _ (by omega) (by omega), g4 _ (by omega) (by omega)]; exact b1
      · rw [k4 _ (by omega) (by omega), g4 _ (by omega) (by omega)]; exact b2
      · rw [k4 _ (by omega) (by omega)]; exact g2
      · exact gk_ob0_kept (g3 j hj) (k4 _ (by omega) (by omega))
    · rw [b42]; rfl
  · rw [b3]; rfl

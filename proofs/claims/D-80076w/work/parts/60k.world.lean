/-! the constructor of World, up to its call of clear() -/
/-- the items but for arrays of rules -/
def gk_alx (K : Nat → ClassId) (h : Nat) (H : Heap) : List gk_it → Prop
  | [] => True
  | t :: r => (gk_e t ≠ 4 → gk_ce K (gk_e t) (gk_n t) (gk_m t) h H) ∧ gk_alx K (h + gk_sz (gk_e t) (gk_n t)) H r
def gk_hl : List gk_it → Nat → Bool
  | [], _ => false
  | t :: r, o => if o < gk_sz (gk_e t) (gk_n t) then Nat.beq (gk_e t) 4 else gk_hl r (o - gk_sz (gk_e t) (gk_n t))
theorem gk_alx_of {K : Nat → ClassId} {H : Heap} : ∀ (its : List gk_it) (h : Nat), gk_all K h H its → gk_alx K h H its
  | [], _, _ => trivial
  | _ :: r, _, g => ⟨fun _ => g.1, gk_alx_of r _ g.2⟩
theorem gk_alx_kept {K : Nat → ClassId} {H H1 : Heap} : ∀ (its : List gk_it) (h : Nat), gk_alx K h H its → (∀ o : Nat, o < gk_tot its → gk_hl its o = false → H1[h + o]? = H[h + o]?) → gk_alx K h H1 its
  | [], _, _, _ => trivial
  | t :: r, h, g, hq => by
    have e : gk_tot (t :: r) = gk_sz (gk_e t) (gk_n t) + gk_tot r := rfl
    refine ⟨fun h4 => gk_ce_kept (g.1 h4) (fun q q1 q2 => ?_), gk_alx_kept r _ g.2 (fun o o1 o2 => ?_)⟩
    · have := hq (q - h) (by omega) (by
        show (if q - h < gk_sz (gk_e t) (gk_n t) then Nat.beq (gk_e t) 4 else gk_hl r (q - h - gk_sz (gk_e t) (gk_n t))) = false
        rw [if_pos (by omega)]
        cases z : Nat.beq (gk_e t) 4 with
        | true => exact absurd (Nat.eq_of_beq_eq_true z) h4
        | false => rfl)
      rw [show h + (q - h) = q by omega] at this
      exact this
    · have := hq (gk_sz (gk_e t) (gk_n t) + o) (by omega) (by
        show (if gk_sz (gk_e t) (gk_n t) + o < gk_sz (gk_e t) (gk_n t) then Nat.beq (gk_e t) 4 else gk_hl r (gk_sz (gk_e t) (gk_n t) + o - gk_sz (gk_e t) (gk_n t))) = false
        rw [if_neg (by omega), show gk_sz (gk_e t) (gk_n t) + o - gk_sz (gk_e t) (gk_n t) = o by omega]
        exact o2)
      rw [← Nat.add_assoc] at this
      exact this
/-- the i-th item -/
def gk_oi : List gk_it → Nat → Nat
  | [], _ => 0
  | _ :: _, 0 => 0
  | t :: r, i + 1 => gk_sz (gk_e t) (gk_n t) + gk_oi r i
theorem gk_all_get {K : Nat → ClassId} {H : Heap} : ∀ (its : List gk_it) (i h : Nat) (t : gk_it), its[i]? = some t → gk_all K h H its → gk_ce K (gk_e t) (gk_n t) (gk_m t) (h + gk_oi its i) H
  | [], _, _, _, e, _ => by cases e
  | t :: r, 0, h, t', e, g => by cases e; exact g.1
  | t :: r, i + 1, h, t', e, g => by
    have := gk_all_get r i _ t' e g.2
    rw [Nat.add_assoc] at this
    exact this
theorem it_wld_hl : (List.range 263).all (fun o => !(gk_hl it_wld o) || Nat.beq o 8 || Nat.beq o 215) = true := by decide +kernel
theorem it_wld_h {o : Nat} (h : o < 263) (h8 : o ≠ 8) (h2 : o ≠ 215) : gk_hl it_wld o = false := by
  have := List.all_eq_true.mp it_wld_hl o (List.mem_range.mpr h)
  cases z : gk_hl it_wld o with
  | false => rfl
  | true =>
    rw [z] at this
    simp only [Bool.not_true, Bool.false_or, Bool.or_eq_true] at this
    rcases this with y | y
    · exact absurd (Nat.eq_of_beq_eq_true y) h8
    · exact absurd (Nat.eq_of_beq_eq_true y) h2
def gk_world (K : Nat → ClassId) (D : va_G) (h : Nat) (H : Heap) : Prop := (∃ ty : Nat → FieldType, (∀ k, k < 47 → parseFieldDescriptor (am_T am_Tl_w k).2.2.1 = some (ty k)) ∧ t_OB h (D.1 1) 47 (D.2 1) H (gk_V (updV (fun k => defaultValue (ty k)) 0 (.ref (h + 1))) (h + 8) it_wld)) ∧ gk_obI K D 2 (h + 1) (h + 2) it_wds H ∧ gk_alx K (h + 8) H it_wld ∧
  H[h + 16]? = some (arrV (K 4) 24 (fun j => if j < 24 then .ref (h + 271 + j * 19) else .null)) ∧ H[h + 223]? = some (arrV (K 4) 24 (fun j => if j < 24 then .ref (h + 727 + j * 19) else .null)) ∧ (∀ j, j < 24 → gk_rule K D (h + 271 + j * 19) H) ∧ ∀ j, j < 24 → gk_rule K D (h + 727 + j * 19) H
theorem gk_obI_kept {K : Nat → ClassId} {D : va_G} {ci a sz : Nat} {its : List gk_it} {H H1 : Heap} (g : gk_obI K D ci a sz its H) (ha : H1[a]? = H[a]?) (hq : ∀ q : Nat, sz ≤ q → q < sz + gk_tot its → H1[q]? = H[q]?) : gk_obI K D ci a sz its H1 := by
  obtain ⟨C, T, N, ty, h1, h2, h3, h4⟩ := g
  exact ⟨C, T, N, ty, h1, h2, h3.kept ha, gk_all_kept _ _ h4 hq⟩
theorem gk_wld {p : Program} {l : Launch} {e : Env} {R : Room} {s : State} {m : MethodId} {args : Array Value} {below : List Frame} {meth : Method} {c : Code} {Q : State → Prop} {K : Nat → ClassId} {D : va_G} {h : Nat} {ls : Array Slot} (S : CallFix p m c y_wld.2.1 2 s args ga_tb "RuleSentences$World") (hnm : meth.name = "<init>") (hsz : s.heap.size = h + 1) (hSt : gk_S K D s) (hJ : gk_ob0 D 1 h s.heap) (hls : lv_has ls 2 [(0, .ref h)]) (hR : 6 ≤ R.frames ∧ 500 ≤ R.locals) (hR2 : 1182 ≤ R.cells ∧ 44483 ≤ R.slots)
    (kk : ∀ (H1 : Heap) (locs1 : List Loc) (ls1 : Array Slot), ls1.size = 2 → ls1[0]? = some (.val (.ref h)) → H1.size = h + 1183 → gk_world K D h H1 → (∀ q : Nat, q < h → H1[q]? = s.heap[q]?) → va_S (gk_A h (h + 1)) s.heap H1 locs1 → W p l e R s m args below meth c H1 locs1 1182 44483 Q (F0 m 371 ls1 [])) :
    W p l e R s m args below meth c s.heap [] 0 0 Q (F0 m 0 ls []) := by
  have S' := S
  obtain ⟨hx, hb, hml, hown, hts⟩ := S'
  obtain ⟨C, T, N, ty, j1, j2, j3⟩ := hJ
  cases (show (C, T, N) = ("RuleSentences$World", am_T am_Tl_w, 47) from Option.some.inj (j1.symm.trans rfl))
  obtain ⟨hin, hnm2, ty2, hty2⟩ := gk_cls (ci := 1) (C := "RuleSentences$World") (T := am_T am_Tl_w) (N := 47) rfl
  refine lv_aload_n hx hb (k := 0) (by decide +kernel) rfl (lv_at hls 0 rfl) ?_
  refine W.objInit hx hb hown (hts _ (gk_in_tb wo_wld)) (hts _ (gk_in_tb jw_1_26)) (hts _ (gk_in_tb gk_obi)) rfl (by rw [hml]; exact hls.1) rfl (show decode y_wld.2.1 1 = _ by decide +kernel) (by omega) (by show 2 * 0 + (0 : Nat) + 12 ≤ R.locals; omega) ?_
  show W p l e R s m args below meth c s.heap [] 0 0 Q (F0 m 4 ls [])
  -- the words
  refine lv_aload_n hx hb (k := 0) (by decide +kernel) rfl (lv_at hls 0 rfl) ?_
  refine gk_newc (F := fun h H => H.size = h + 7 ∧ gk_obI K D 2 h (h + 1) it_wds H) (A := gk_A h (h + 1)) (H0 := s.heap) (idx := 9) (idx2 := 11) (rest := [.ref h]) S c_wds gd_wds rfl rfl hSt (ci := 2) rfl wk_wld_wds wn_wds wi_wds (Or.inr ⟨_, wl_wld_wds⟩) wm_wds wd_wds hls.1 (show 1 + 0 ≤ 7 by decide) (by decide +kernel) (by decide +kernel) (by decide +kernel) ⟨by omega, by show 8 + (1 + 11) + 60 ≤ _; omega⟩ ⟨by omega, by omega⟩ va_S.rf (fun q hq => Or.inr (by omega)) fun H2 locs2 g1 g2 g3 g4 => ?_
  rw [hsz] at g1 g2 g3
  have fitW := gk_fitR (by decide +kernel) (hty2 0 (by decide)) s.heap.size
  refine gk_WputF (v := .ref s.heap.size) hx hb hts hin ty2 hty2 hnm2 hown hSt.2.2.1 (j3.kept (g3 h (by omega))) rfl 0 (by decide) (gk_in_tb (am_at_c (k := 2) (i := 208) rfl rfl)) rfl rfl hnm fitW.1 fitW.2 (index := 12) (by decide +kernel) fun H3 i3 a1 a2 a3 => ?_
  rw [hsz] at a1
  have z3 : H3.size = h + 8 := by rw [a2, g1.1]
  refine gk_its hx hb hown hts hSt.1 hSt.2.1 hSt.2.2.1 rfl hnm (lv_at hls 0 rfl) (A := gk_A h (h + 1)) (H0 := s.heap) (Or.inl rfl) (fun q hq => Or.inr (by omega)) 317 it_wld 15 H3 _ _ _ _ it_wld_ch it_wld_ck a1 (g4.put a2 a3 (Or.inl rfl)) (by rw [it_wld_t.1]; omega) (by rw [it_wld_t.2]; omega) fun H4 locs4 d1 d2 d3 d4 d5 => ?_
  rw [it_wld_t.1, it_wld_t.2]
  rw [it_wld_t.1] at d1
  rw [z3] at d1 d2 d3 d4
  have e16 : H4[h + 16]? = some (arrV (K 4) 24 (fun _ => .null)) := by
    have z := gk_all_get it_wld 8 _ _ rfl d2
    rw [show gk_oi it_wld 8 = 8 by decide +kernel] at z
    exact z
  have eA2 : H4[h + 223]? = some (arrV (K 4) 24 (fun _ => .null)) := by
    have z := gk_all_get it_wld 25 _ _ rfl d2
    rw [show gk_oi it_wld 25 = 215 by decide +kernel] at z
    exact z
  have rl : va_AO "RuleSentences$Rule" s := hSt.1.1
  have ho : ∀ h H, gk_rule K D h H → ∃ cell : Cell, H[h]? = some cell ∧ cell.cls = D.1 6 ∧ cell.vm = .none := by
    rintro h H ⟨⟨ty, t1, cell, q1, q2, q3, _⟩, _⟩
    exact ⟨cell, q1, q2, q3⟩
  refine gk_push hx hb (n := 0) (len := 1) (by decide +kernel) (by decide) ?_
  refine lv_istore_n hx hb (k := 1) (i := 1) (by decide +kernel) rfl hls (by decide) rfl fun ls1 hls1 => ?_
  refine gk_fill (G := fun h H => gk_rule K D h H) (a := h) (b := h + 16) (kf := 14) (fi := 45) (C0 := "RuleSentences$World") (T0 := am_T am_Tl_w) (N0 := 47) (c0 := 1) (ci := 6) (e0 := 4) (N := 24) (L := 319) (c1 := 270) (s1 := 37811) (h0 := h + 271) (H9 := H4) (off1 := 22) (off2 := -22) (A := gk_A h (h + 1)) (H0 := s.heap) S c_rul gd_rul rfl rfl hSt rfl wk_wld_rul wn_rul wi_rul (Or.inl wl_wld_rul) wm_rul wd_rul rl (by decide) rfl rfl (by decide) rfl (Or.inl (gk_in_tb (am_at_c (k := 3) (i := 10) rfl rfl))) rfl (by omega) (by decide) (by decide)
    (fun h H H' g q => gk_rule_kept g (fun x x1 x2 => q x x1 (by omega))) ho
    (by decide +kernel) (by decide +kernel) (by decide +kernel) rfl (by decide +kernel) (by decide +kernel) (by decide +kernel) (by decide +kernel) (by decide +kernel) (by decide +kernel) (by decide +kernel) (by decide +kernel) (by decide +kernel) rfl
    ⟨by omega, by show 8 + (2 + 11) + 200 ≤ _; omega⟩ (fun q hq => Or.inr (by omega)) (Or.inr (by omega)) (by omega) (by omega) (by omega) (by omega)
    (fun H5 locs5 ls5 hls5 b1 b2 b3 b4 b5 => ?_) 24 0 rfl H4 locs4 ls1 hls1 (by omega) ?_ (fun j hj => by omega) (fun q _ _ => rfl) d3 d5
  · refine gk_push hx hb (n := 0) (len := 1) (by decide +kernel) (by decide) ?_
    refine lv_istore_n hx hb (k := 1) (i := 1) (by decide +kernel) rfl hls5 (by decide) rfl fun ls6 hls6 => ?_
    have o5 := d3.kept (b4 h (by omega) (by omega))
    have eA5 : H5[h + 223]? = some (arrV (K 4) 24 (fun _ => .null)) := by rw [b4 _ (by omega) (by omega)]; exact eA2
    refine gk_fill (G := fun h H => gk_rule K D h H) (a := h) (b := h + 223) (kf := 37) (fi := 102) (C0 := "RuleSentences$World") (T0 := am_T am_Tl_w) (N0 := 47) (c0 := 1) (ci := 6) (e0 := 4) (N := 24) (L := 346) (c1 := 726) (s1 := 41147) (h0 := h + 727) (H9 := H5) (off1 := 22) (off2 := -22) (A := gk_A h (h + 1)) (H0 := s.heap) S c_rul gd_rul rfl rfl hSt rfl wk_wld_rul wn_rul wi_rul (Or.inl wl_wld_rul) wm_rul wd_rul rl (by decide) rfl rfl (by decide) rfl (Or.inl (gk_in_tb (am_at_c (k := 3) (i := 75) rfl rfl))) rfl (by omega) (by decide) (by decide)
      (fun h H H' g q => gk_rule_kept g (fun x x1 x2 => q x x1 (by omega))) ho
      (by decide +kernel) (by decide +kernel) (by decide +kernel) rfl (by decide +kernel) (by decide +kernel) (by decide +kernel) (by decide +kernel) (by decide +kernel) (by decide +kernel) (by decide +kernel) (by decide +kernel) (by decide +kernel) rfl
      ⟨by omega, by show 8 + (2 + 11) + 200 ≤ _; omega⟩ (fun q hq => Or.inr (by omega)) (Or.inr (by omega)) (by omega) (by omega) (by omega) (by omega)
      (fun H7 locs7 ls7 hls7 k1 k2 k3 k4 k5 => ?_) 24 0 rfl H5 locs5 ls6 hls6 (by omega) ?_ (fun j hj => by omega) (fun q _ _ => rfl) o5 b5
    · have kp : ∀ q : Nat, q < h + 271 → q ≠ h + 16 → q ≠ h + 223 → H7[q]? = H4[q]? := fun q q1 q2 q3 => by rw [k4 q (by omega) q3, b4 q q1 q2]
      refine kk H7 locs7 ls7 hls7.1 (lv_at hls7 1 rfl) (by omega) ⟨⟨ty, j2, o5.kept (k4 h (by omega) (by omega))⟩, ?_, ?_, ?_, k2, fun j hj => ?_, fun j hj => k3 j hj⟩ (fun q hq => ?_) k5
      · refine gk_obI_kept g1.2 ?_ (fun q q1 q2 => ?_)
        · rw [kp _ (by omega) (by omega) (by omega), d4 _ (by omega) (by omega), a3 _ (by omega)]
        · rw [it_wds_t.1] at q2
          rw [kp _ (by omega) (by omega) (by omega), d4 _ (by omega) (by omega), a3 _ (by omega)]
      · refine gk_alx_kept _ _ (gk_alx_of _ _ d2) (fun o o1 o2 => ?_)
        rw [it_wld_t.1] at o1
        have n8 : o ≠ 8 := fun z => by rw [z] at o2; exact absurd o2 (by decide +kernel)
        have n2 : o ≠ 215 := fun z => by rw [z] at o2; exact absurd o2 (by decide +kernel)
        exact kp _ (by omega) (by omega) (by omega)
      · rw [k4 _ (by omega) (by omega)]; exact b2
      · exact gk_rule_kept (b3 j hj) (fun q q1 q2 => k4 q (by omega) (by omega))
      · rw [kp q (by omega) (by omega) (by omega), d4 q (by omega) (by omega), a3 q (by omega), g3 q (by omega)]
    · rw [eA5]; rfl
  · rw [e16]; rfl

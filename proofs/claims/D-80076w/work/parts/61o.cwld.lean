/-! the constructor of World -/
theorem gk_cnt_le {L : List Nat} {r : Nat} (hr : r ≤ 49) (c : Nat) : gk_cnt L r c ≤ gk_ctl.getD c 0 := by
  unfold gk_cnt
  by_cases h : 179 ≤ c
  · rw [if_pos h]; exact Nat.zero_le _
  rw [if_neg h]
  by_cases s5 : gk_stl.getD c 9 = 5
  · rw [if_pos s5]
    have ck := List.all_eq_true.mp gk_st5 c (List.mem_range.mpr (by omega))
    rw [s5] at ck
    have m5 : c ∈ [6, 7, 84, 85, 86, 87] := List.contains_iff_mem.mp (by simpa using ck)
    simp only [List.mem_cons, List.not_mem_nil, or_false] at m5
    rcases m5 with z | z | z | z | z | z <;> subst z
    · rw [if_neg (by decide)]; exact hr
    · rw [if_pos rfl]
      show (if r = 49 then 687 else 14 * r) ≤ 687
      split <;> omega
    · rw [if_neg (by decide)]; exact hr
    · rw [if_neg (by decide)]; exact hr
    · rw [if_neg (by decide)]; exact hr
    · rw [if_neg (by decide)]; exact hr
  · rw [if_neg s5]
    split
    · exact Nat.le_refl _
    · exact Nat.zero_le _
theorem gk_cnt_179 {L : List Nat} {r c : Nat} (h : 179 ≤ c) : gk_cnt L r c = 0 := by
  unfold gk_cnt
  rw [if_pos h]
/-- all objects lie at or behind base -/
theorem gk_isO_ge {K : Nat → ClassId} {D : va_G} {b ad : Nat → Nat} {cnt : Nat → Nat} {base : Nat} (hb : ∀ r, r < 12 → base ≤ b r) (hcnt : ∀ c, cnt c ≤ gk_ctl.getD c 0) (h179 : ∀ c, 179 ≤ c → cnt c = 0) : ∀ q, am_isO (gk_E K D b ad) cnt q → base ≤ q := by
  rintro q ⟨c, n, h8, hn, rfl⟩
  have hc : c < 179 := by
    rcases Nat.lt_or_ge c 179 with z | z
    · exact z
    · rw [h179 c z] at hn; omega
  obtain ⟨_, _, r3, _⟩ := gk_iv_ok hc h8 (Nat.lt_of_lt_of_le hn (hcnt c))
  show base ≤ gk_adr b ad c n
  rw [gk_adr_rg h8]
  have := hb _ r3
  omega
/-- what World's constructor is given -/
def gk_JW (D : va_G) (base : Nat) (U0 : State) (D9 : va_G) (ad : Nat → Nat) (h : Nat) (U : State) : Prop := gk_ob0 D 1 h U.heap ∧ gk_Sx base U0 D9 ad U
theorem c_wld {l : Launch} {K : Nat → ClassId} {D : va_G} {base : Nat} {U0 : State} {D9 : va_G} {ad : Nat → Nat} (hcl : ∀ U : State, gk_S K D U → U.vm.findClass "RuleSentences$Token" = some (D.1 8)) (h : Nat) (hbh : base ≤ h) : gk_C l y_wld 40 4000 1194 44675 h (h + 1) [] K D (gk_JW D base U0 D9 ad h) (fun H => ∃ σ1, c_w_clear 7 gk_s0 = some (0, σ1) ∧ h + 1183 ≤ H.size ∧ ga_Hd (am_YS (gk_E K D (gk_b1 h) ad) (gk_cnt [1] 48) U0) σ1 H) := by
  refine gk_of gd_wld (Nat.le_of_ble_eq_true rfl) (fun p e s m args below meth c ls S hlk hrt hnm hsz hSt hJ hls => ?_)
  have S' := S
  obtain ⟨hx, hb, hml, hown, hts⟩ := S'
  obtain ⟨hob, hSx⟩ := hJ
  obtain ⟨σ1, k1, k2, k3, k4⟩ := k_clear (σ := gk_s0) (by decide) (d := 7) (by decide)
  have al : ga_al σ1 - ga_al gk_s0 = 6 := by
    have e0 : gk_s0 330 0 0 = 0 := gk_s0_z (by decide) 0 0
    have := k3.2
    unfold ga_al
    rw [show gk_s0 fX_alloc 0 0 = 0 from e0] at this
    have e1 : σ1 330 0 0 = 6 := this
    rw [e1, e0]
    rfl
  have En := hSx.2.2.2.2.1
  have t64 : am_toks.length = 64 := by decide
  have adb : ∀ i, i < 64 → ad i < base := fun i hi => by
    obtain ⟨cell, _, _, _, z⟩ := (En.1 i (by omega)).2.1
    omega
  have adi : ∀ i j, i < 64 → j < 64 → ad i = ad j → i = j := fun i j hi hj => En.2 i j (by omega) (by omega)
  refine gk_wld S hnm hsz hSt hob hls ⟨by decide, by decide⟩ ⟨by decide, by decide⟩ fun H1 locs1 ls1 q1 q2 q3 q4 q5 q6 => ?_
  have hTok : ∀ i, i < 64 → ∃ cell : Cell, H1[ad i]? = some cell ∧ cell.cls = D.1 8 ∧ cell.vm.isStatics = false := by
    intro i hi
    obtain ⟨cell, z1, z2, z3, z4⟩ := (En.1 i (by omega)).2.1
    refine ⟨cell, by rw [q5 _ (by have := adb i hi; omega)]; exact z1, ?_, z2⟩
    exact (Option.some.inj ((hcl s hSt).symm.trans z3)).symm
  have hHd := gk_HdW (b := gk_b1 h) (ad := ad) (U0 := U0) (K := K) (D := D) q4 hTok
  have hap := gk_b1_apart (h := h) (ad := ad) adi (fun i hi => by have := adb i hi; omega)
  have hin := gk_hin hap (cnt := gk_cnt [1] 48) (gk_cnt_le (by decide)) (fun c hc => gk_cnt_179 hc)
  have hO : ∀ q, am_isO (gk_E K D (gk_b1 h) ad) (gk_cnt [1] 48) q → h ≤ q := gk_isO_ge (fun r _ => by unfold gk_b1; split <;> omega) (gk_cnt_le (by decide)) (fun c hc => gk_cnt_179 hc)
  refine lv_aload_n hx hb (k := 0) (by decide +kernel) rfl q2 ?_
  refine gk_amV (b := h) (j := 29) (d := 7) (idx := 128) (As := []) (rest := []) (v := (4, 0)) (vs := []) (σ := gk_s0) (q := (0, σ1)) (A := gk_A h (h + 1)) (H0 := s.heap) (D9 := D9) S hin (fun c hc => gk_cnt_179 hc) (by decide) (by decide) k1 (gk_KN hSt hts (fun c hc => gk_cnt_179 hc)) hSt.2.2.2 (fun U e1 e2 => gk_Sx_am (gk_Sx_warm hSx e2 (fun q hq => by rw [e1]; exact q5 q (by omega))) rfl (fun q hq => by have := hO q hq; omega)) hHd ⟨Or.inr ⟨rfl, by decide, by decide, fun _ => rfl⟩, trivial⟩ ?_ (am_at_c (k := 1) (i := 189) rfl rfl) (am_at_c (k := 1) (i := 190) rfl rfl) (am_at_c (k := 1) (i := 191) rfl rfl) (by decide +kernel) q1 (by decide) (by decide +kernel) ⟨by decide, by decide⟩ (by rw [al]; decide) q6 (fun x hx => ?_) (fun x hx => Or.inr (by omega)) fun H2 locs2 rv r1 r2 r3 r4 => ?_
  · obtain ⟨⟨ty, t1, cell, z1, z2, z3, _⟩, _⟩ := q4
    exact ⟨cell, z1, by rw [z3]; rfl, by rw [z2]; exact (hSt.2.2.1.1 1 _ rfl).2.1⟩
  · have := hO x hx
    by_cases z : x = h
    · exact Or.inl z
    · exact Or.inr (by omega)
  · have rv0 : rv = [] := r3
    subst rv0
    rw [al]
    exact gk_vret (F := fun H => ∃ σ1, c_w_clear 7 gk_s0 = some (0, σ1) ∧ h + 1183 ≤ H.size ∧ ga_Hd (am_YS (gk_E K D (gk_b1 h) ad) (gk_cnt [1] 48) U0) σ1 H) hx hb hrt hlk ⟨σ1, k1, by have := r2.1; omega, r1⟩ r4 (show decode y_wld.2.1 375 = _ by decide +kernel)

/-! Token.values() and the constructor of Tokens -/
/-- the array of the enum's constants -/
def gk_TV (K : Nat → ClassId) (ad : Nat → Nat) (b0 : Nat) (U : State) : Prop := va_Nw (.castable "[LRuleSentences$Token;" "java/lang/Cloneable") U ∧ ∃ vb, vb < b0 ∧ va_Z "RuleSentences$Token" "$VALUES" "[LRuleSentences$Token;" (.ref vb) (fun q => b0 ≤ q) U U.heap ∧ U.heap[vb]? = some (arrV (K 6) 64 (fun i => .ref (ad i)))
theorem gk_TV_warm {K : Nat → ClassId} {ad : Nat → Nat} {b0 : Nat} {s U : State} (h : gk_TV K ad b0 s) (hW : s.WarmedH U.vm) (hq : ∀ q : Nat, q < b0 → U.heap[q]? = s.heap[q]?) : gk_TV K ad b0 U := by
  obtain ⟨h1, vb, h2, h3, h4⟩ := h
  exact ⟨va_Nw.warmC hW h1, vb, h2, (va_Z.moved hW.alike h3).kept (fun a _ h => hq a (by omega)), by rw [hq vb h2]; exact h4⟩
theorem gk_TV_same {K : Nat → ClassId} {ad : Nat → Nat} {b0 : Nat} {s U : State} (h : gk_TV K ad b0 s) (ev : U.vm = s.vm) (eh : U.heap = s.heap) : gk_TV K ad b0 U := by
  obtain ⟨h1, vb, h2, h3, h4⟩ := h
  have hv : s.vm.Alike U.vm := by rw [ev]; exact Vm.Alike.refl _
  exact ⟨va_Nw.same rfl ev.symm h1, vb, h2, by rw [eh]; exact va_Z.moved hv h3, by rw [eh]; exact h4⟩
def y_val : jm_N := (⟨"RuleSentences$Token", "values", "()[LRuleSentences$Token;"⟩, prog_5_method_1_code, 0, some (.array (.object "RuleSentences$Token")))
theorem gd_val : jm_good y_val := ⟨by decide +kernel, am_at_c (k := 3) (i := 208) rfl rfl, am_at_c (k := 1) (i := 16) rfl rfl, by decide +kernel, by decide +kernel⟩
theorem gk_tok {K : Nat → ClassId} {D : va_G} {s : State} (h : gk_S K D s) : va_K D am_cl [(K 6, .object "RuleSentences$Token")] s ∧ s.vm.findClass "[LRuleSentences$Token;" = some (K 6) := by
  obtain ⟨comp, cA, kA, h1, -, h3, h4, h5⟩ := Cond.arrayOver_spec h.1.2.2.1
  have ek : K 6 = cA := Option.some.inj ((h.2.1 6 (by decide)).symm.trans h5)
  have en : "[" ++ (FieldType.object "RuleSentences$Token").toString = "[LRuleSentences$Token;" := by decide +kernel
  refine ⟨⟨h.2.2.1.1, fun k q hk => ?_⟩, by rw [← en, ek]; exact h5⟩
  have hz : k = 0 := by
    have := (List.getElem?_eq_some_iff.mp hk).1
    simp at this; exact this
  subst hz
  cases hk
  rw [ek]
  exact ⟨fun n z => ⟨fun k h => (by cases h), kA, h3, comp, h4⟩, kA, comp, h3, h4, h1, h5⟩
theorem c_val {l : Launch} {K : Nat → ClassId} {D : va_G} {ad : Nat → Nat} {b0 sz : Nat} (hb0 : b0 ≤ sz) : jm_Cm l y_val 1 60 1 64 sz [] (fun U => gk_S K D U ∧ gk_TV K ad b0 U) (fun v t => ∃ q, v = some (.ref q) ∧ sz ≤ q ∧ t.heap[q]? = some (arrV (K 6) 64 (fun i => .ref (ad i)))) := by
  refine jm_ofm gd_val (Nat.le_of_ble_eq_true rfl) (fun p e s m args below meth c ls S hlk hrt hnm hsz hJ hls => ?_)
  obtain ⟨hx, hb, hml, hown, hts⟩ := S
  obtain ⟨hSt, hcst, vb, v1, v2, v3⟩ := hJ
  obtain ⟨hK6, hfn⟩ := gk_tok hSt
  refine va_gets (A := fun q => b0 ≤ q) hx hb v2 va_S.rf hown (hts _ (am_at_c (k := 3) (i := 209) rfl rfl)) (fun x h => h) (by decide +kernel) ?_
  have hP : va_P D am_cl [(vb, .inl (K 6, 64, .inr (.inr (.inr (.inr (fun i => some (ad i)))))))] s.heap := by
    intro k q hk
    have hz : k = 0 := by
      have := (List.getElem?_eq_some_iff.mp hk).1
      simp at this; exact this
    subst hz
    cases hk
    exact v3
  have hD : va_D (fun q => q = vb ∨ sz ≤ q) [(vb, .inl (K 6, 64, .inr (.inr (.inr (.inr (fun i => some (ad i)))))))] := by
    refine ⟨fun i j x y hi hj _ => ?_, fun k q hk => ?_⟩
    · have := (List.getElem?_eq_some_iff.mp hi).1
      have := (List.getElem?_eq_some_iff.mp hj).1
      simp at *; omega
    · have hz : k = 0 := by
        have := (List.getElem?_eq_some_iff.mp hk).1
        simp at this; exact this
      subst hz
      cases hk
      exact Or.inl rfl
  refine va_clone (ad := "[LRuleSentences$Token;") hx hb (by rw [hml]; exact hls.1.symm) hown (hts _ (am_at_c (k := 3) (i := 211) rfl rfl)) (hts _ (am_at_c (k := 3) (i := 212) rfl rfl)) (hts _ (am_at_c (k := 2) (i := 145) rfl rfl)) (hts _ (am_at_c (k := 2) (i := 146) rfl rfl)) (hts _ (am_at_c (k := 3) (i := 213) rfl rfl)) hcst hK6 hP hD va_S.rf (fun q hq => Or.inr (by omega)) 0 0 rfl rfl hfn
    (fun i v hv => va_fit (cA := K 6) (n := 64) (F := fun j => va_rf (some (ad j))) (fun i _ => rfl) i v hv) (Nat.le_of_ble_eq_true rfl) (Nat.le_of_ble_eq_true rfl) (by decide) (show 0 + 64 ≤ 64 by decide) (by decide +kernel) fun q H1 f1 f2 f3 f4 => ?_
  refine va_castA hx hb hown (hts _ (am_at_c (k := 3) (i := 216) rfl rfl)) f2 1 rfl hfn (by decide +kernel) ?_
  have hq1 : H1[q]? = some (arrV (K 6) 64 (fun i => .ref (ad i))) := f2 1 _ rfl
  have hqz : sz ≤ q := by
    rcases f3.2 1 _ rfl with z | z
    · have z' : q = vb := z
      exact absurd (f3.1 0 1 _ _ rfl rfl z'.symm) (by decide)
    · exact z
  exact W.aret hx hb hrt (Or.inr ⟨_, rfl⟩) (Or.inr ⟨q, rfl⟩) (fun t ht hW => ⟨_, rfl, ⟨q, rfl, hqz, by rw [ht]; exact hq1⟩, by rw [ht]; exact Nat.le_trans (by omega) f4.1, fun x x1 => by
    rw [ht]
    by_cases z : x = vb
    · rw [z, v3]; exact f2 0 _ rfl
    · exact f4.2.1 x (by omega) (fun y => by rcases y with y | y; exact z y; omega)⟩) (fun q hq => by cases hq) (by decide +kernel) hlk
/-- tokens at h -/
def gk_toks (K : Nat → ClassId) (D : va_G) (ad : Nat → Nat) (h qa qb : Nat) (H : Heap) : Prop := (h + 2 ≤ qa ∧ qa < qb) ∧ (∃ ty : Nat → FieldType, (∀ k, k < 10 → parseFieldDescriptor (am_T am_Tl_t k).2.2.1 = some (ty k)) ∧ t_OB h (D.1 3) 10 (D.2 3) H (gk_V (updV (gk_V (fun k => defaultValue (ty k)) (h + 1) it_tks) 3 (.ref qa)) qb it_tks1)) ∧
  gk_all K (h + 1) H it_tks ∧ H[qa]? = some (arrV (K 6) 64 (fun i => .ref (ad i))) ∧ gk_all K qb H it_tks1
theorem c_tks {l : Launch} {K : Nat → ClassId} {D : va_G} {ad : Nat → Nat} {b0 : Nat} (h : Nat) (hb0 : b0 ≤ h) : gk_C l y_tks 3 200 5 20070 h (h + 1) [] K D (fun U => gk_TV K ad b0 U ∧ gk_ob0 D 3 h U.heap) (fun H => ∃ qa qb, H.size = qb + 3 ∧ gk_toks K D ad h qa qb H) := by
  refine gk_of gd_tks (Nat.le_of_ble_eq_true rfl) (fun p e s m args below meth c ls S hlk hrt hnm hsz hSt hJ hls => ?_)
  have S' := S
  obtain ⟨hx, hb, hml, hown, hts⟩ := S'
  obtain ⟨hTV, C, T, N, ty, j1, j2, j3⟩ := hJ
  cases (show (C, T, N) = ("RuleSentences$Tokens", am_T am_Tl_t, 10) from Option.some.inj (j1.symm.trans rfl))
  have hC := gk_cls (ci := 3) (C := "RuleSentences$Tokens") (T := am_T am_Tl_t) (N := 10) rfl
  obtain ⟨hin, hnm2, ty2, hty2⟩ := hC
  refine lv_aload_n hx hb (k := 0) (by decide +kernel) rfl (lv_at hls 0 rfl) ?_
  refine W.objInit hx hb hown (hts _ (gk_in_tb wo_tks)) (hts _ (gk_in_tb jw_1_26)) (hts _ (gk_in_tb gk_obi)) rfl (by rw [hml]; exact hls.1) rfl (show decode y_tks.2.1 1 = _ by decide +kernel) (Nat.le_of_ble_eq_true rfl) (Nat.le_of_ble_eq_true rfl) ?_
  refine gk_its hx hb hown hts hSt.1 hSt.2.1 hSt.2.2.1 rfl hnm (lv_at hls 0 rfl) (A := gk_A h (h + 1)) (Or.inl rfl) (fun q hq => Or.inr (by omega)) 13 it_tks 4 s.heap _ [] 0 0 it_tks_ch it_tks_ck j3 va_S.rf (by rw [it_tks_t.1]; decide) (by rw [it_tks_t.2]; decide) fun H1 locs1 f1 f2 f3 f4 f5 => ?_
  rw [it_tks_t.1, it_tks_t.2]
  rw [it_tks_t.1] at f1
  rw [hsz] at f1 f2 f3 f4
  refine lv_aload_n hx hb (k := 0) (by decide +kernel) rfl (lv_at hls 0 rfl) ?_
  have jbl : jm_bl (fun U => gk_S K D U ∧ gk_TV K ad b0 U) := fun U U' g e1 e2 => ⟨gk_S_same e1 g.1, gk_TV_same g.2 e1 e2⟩
  have jal : jm_al (fun v t => ∃ q, v = some (.ref q) ∧ h + 2 ≤ q ∧ t.heap[q]? = some (arrV (K 6) 64 (fun i => .ref (ad i)))) := fun v t U g _ e2 => by
    obtain ⟨q, q1, q2, q3⟩ := g
    exact ⟨q, q1, q2, by rw [e2]; exact q3⟩
  refine jm_Sm (vs := []) (rest := [.ref h]) (A := gk_A h (h + 1)) (idx := 15) (sz := h + 2) ⟨hx, hb, hml, hown, fun w hw => hts w (gk_in_tb hw)⟩ (c_val (ad := ad) (by omega)) gd_val jbl jal (fun U e1 e2 => ⟨gk_S_warm e2 hSt, gk_TV_warm hTV e2 (fun q hq => by rw [e1]; exact f4 q (by omega) (by omega))⟩) (am_at_c (k := 3) (i := 206) rfl rfl) (am_at_c (k := 3) (i := 207) rfl rfl) (by decide +kernel) hls.1 (show 1 + 0 ≤ 8 by decide) (by decide +kernel) ⟨by decide, by decide⟩ ⟨by decide, by decide⟩ (by omega) f5 (fun q hq => Or.inr (by omega)) fun U locs2 v hW g1 g2 g3 g4 => ?_
  obtain ⟨qa, rfl, q2, q3⟩ := g1
  have o2 : t_OB h (D.1 3) 10 (D.2 3) U.heap (gk_V (fun k => defaultValue (ty k)) (h + 1) it_tks) := f3.kept (g3 h (by omega))
  have qal : qa < U.heap.size := (Array.getElem?_eq_some_iff.mp q3).1
  have fit : narrow (ty2 3) (.ref qa) = .ref qa ∧ fits (ty2 3) (.ref qa) = true := gk_fitR (by decide +kernel) (hty2 3 (by decide)) qa
  refine gk_WputF (v := .ref qa) hx hb hts hin ty2 hty2 hnm2 hown hSt.2.2.1 o2 rfl 3 (by decide) (gk_in_tb (am_at_c (k := 3) (i := 224) rfl rfl)) rfl rfl hnm fit.1 fit.2 (index := 21) (by decide +kernel) fun H3 i k1 k2 k3 => ?_
  refine gk_its hx hb hown hts hSt.1 hSt.2.1 hSt.2.2.1 rfl hnm (lv_at hls 0 rfl) (A := gk_A h (h + 1)) (H0 := s.heap) (Or.inl rfl) (fun q hq => Or.inr (by omega)) 48 it_tks1 20 H3 _ _ _ _ it_tks1_ch it_tks1_ck k1 (g4.put k2 k3 (Or.inl rfl)) (by rw [it_tks1_t.1]; decide) (by rw [it_tks1_t.2]; decide) fun H4 locs4 r1 r2 r3 r4 r5 => ?_
  have qal3 : qa < H3.size := by rw [k2]; exact qal
  rw [it_tks1_t.1, it_tks1_t.2]
  rw [it_tks1_t.1] at r1
  refine gk_vret (F := fun H => ∃ qa qb, H.size = qb + 3 ∧ gk_toks K D ad h qa qb H) hx hb hrt hlk ⟨qa, H3.size, r1, ⟨q2, by omega⟩, ⟨ty, j2, r3⟩, ⟨gk_ce_kept f2.1 (fun q p1 p2 => ?_), trivial⟩, ?_, r2⟩ r5 (show decode y_tks.2.1 48 = _ by decide +kernel)
  · have p3 : q = h + 1 := by
      have : q < h + 1 + 1 := p2
      omega
    rw [r4 q (by omega) (by omega), k3 q (by omega), g3 q (by omega)]
  · rw [r4 qa (by omega) (by omega), k3 qa (by omega)]; exact q3

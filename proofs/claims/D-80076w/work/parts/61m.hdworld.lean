/-- the steps of a rule, in its arrays -/
theorem gk_H1_t {K : Nat → ClassId} {D : va_G} {b ad : Nat → Nat} {cnt : Nat → Nat} {U0 : State} {σ : ga_S} {H : Heap} {c n N o : Nat} (hac : am_ac c = (4, (N : Int), 1010, 0, 14, (o : Int))) (hc : 10 ≤ c) (hoN : o + N ≤ 14) (hn : n < 49) (h7 : 14 * n + o + N ≤ cnt 7) (hkd : gk_kdl.getD (c - 10) 0 = 5) {f : Nat → Value} (hH : H[gk_adr b ad c n]? = some (arrV (K 5) N f)) (hf : ∀ i, i < N → f i = .ref (gk_ra b n + 5 + (o + i))) : ga_H1 (am_YS (gk_E K D b ad) cnt U0) σ H c n := by
  have cl : am_cl[c]? = none := List.getElem?_eq_none (by show 10 ≤ _; omega)
  have av : ∀ i : Nat, ga_av (am_ac c) n (i : Int) σ = (7 + 3, ((14 * n + o + i : Nat) : Int)) := by
    intro i
    rw [hac]
    unfold ga_av
    dsimp only
    rw [if_neg (by decide)]
    unfold ga_ad
    by_cases z : (o : Int) = 0
    · have : ((o : Int) == 0) = true := by rw [z]; rfl
      rw [this]
      show (10, (14 : Int) * n + i) = _
      congr 1
      omega
    · have : ((o : Int) == 0) = false := by simp [z]
      rw [this]
      show (10, ((14 : Int) * n + i) + o) = _
      congr 1
      omega
  have ea : ∀ i, i < N → gk_adr b ad 7 (14 * n + o + i) = gk_ra b n + 5 + (o + i) := by
    intro i hi
    show (if 14 * n + o + i = 686 then b 9 + 14 else gk_ra b ((14 * n + o + i) / 14) + 5 + (14 * n + o + i) % 14) = _
    rw [if_neg (by omega), show (14 * n + o + i) / 14 = n by omega, show (14 * n + o + i) % 14 = o + i by omega]
  refine ⟨fun q hq => ?_, fun _ => ⟨?_, fun i hi => ?_⟩, fun h1 => ?_⟩
  · rw [show (am_YS (gk_E K D b ad) cnt U0).2.2.2.2.1[c]? = none from cl] at hq; cases hq
  · show H[gk_adr b ad c n]? = some (arrV (gk_cid K D c) (am_ac c).2.1.toNat (fun i => ga_cv (gk_E K D b ad) (ga_av (am_ac c) n i σ)))
    have eN : (am_ac c).2.1.toNat = N := by rw [hac]; exact Int.toNat_natCast N
    have ec : gk_cid K D c = K 5 := by unfold gk_cid; rw [if_neg (by omega), hkd]
    rw [eN, ec, hH]
    congr 1
    refine arrV_ext fun i hi => ?_
    rw [hf i hi, av]
    show Value.ref _ = (if ((14 * n + o + i : Nat) : Int) < 0 then Value.null else Value.ref (gk_adr b ad 7 (((14 * n + o + i : Nat) : Int)).toNat))
    rw [if_neg (by omega), Int.toNat_natCast, ea i hi]
  · have hi2 : (i : Int) < (am_ac c).2.1 := hi
    rw [hac] at hi2
    have hi3 : (i : Int) < (N : Int) := hi2
    show ga_vk (am_YS (gk_E K D b ad) cnt U0) (ga_av (am_ac c) n (i : Int) σ)
    rw [av]
    refine ⟨by omega, ?_, fun z => ?_⟩
    · show ((14 * n + o + i : Nat) : Int) < (cnt 7 : Int)
      omega
    · have z' : am_sing 7 = true := z
      cases z'
  · have h1' : (am_ac c).1 = 1 := h1
    rw [hac] at h1'
    cases h1'
theorem gk_HdW {K : Nat → ClassId} {D : va_G} {b ad : Nat → Nat} {U0 : State} {H : Heap} (g : gk_world K D (b 2) H) (hTok : ∀ i, i < 64 → ∃ cell : Cell, H[ad i]? = some cell ∧ cell.cls = D.1 8 ∧ cell.vm.isStatics = false) : ga_Hd (am_YS (gk_E K D b ad) (gk_cnt [1] 48) U0) gk_s0 H := by
  obtain ⟨⟨tyW, w1, w2⟩, gW, gA, g16, g223, gR1, gR2⟩ := g
  have R : ∀ n, n < 48 → gk_rule K D (gk_ra b n) H := by
    intro n hn
    unfold gk_ra
    rw [if_pos hn]
    by_cases z : n < 24
    · exact gR1 n z
    · have := gR2 (n - 24) (by omega)
      rw [show b 2 + 727 + (n - 24) * 19 = b 2 + 271 + n * 19 by omega] at this
      exact this
  have PW := gk_H1_L (K := K) (D := D) (b := b) (ad := ad) (cnt := gk_cnt [1] 48) (U0 := U0) (σ := gk_s0) (H := H) (ci := 1) (n := 0) (mode := 2) it_wld 8 gA gk_wld_L.1 (fun t ht h4 i => gk_s0_a (Nat.lt_succ_of_lt (gk_ckS_t gk_ckS_w.1 ht).1) ((gk_ckS_t gk_ckS_w.1 ht).2.1 h4) 0 i) (fun t _ => Nat.zero_mul _)
  have MW := gk_H1_LM (K := K) (D := D) (b := b) (ad := ad) (cnt := gk_cnt [1] 48) (U0 := U0) (σ := gk_s0) (H := H) (ci := 1) (mode := 2) it_wld 8 gA gk_wld_L.2.1 (fun t ht h7 => ((gk_ckS_t gk_ckS_w.1 ht).2.2 h7).2) (fun t ht h7 n i => gk_s0_a (by have := (gk_ckS_t gk_ckS_w.1 ht).1; omega) ((gk_ckS_t gk_ckS_w.1 ht).2.2 h7).1 n i)
  obtain ⟨CD, TD, ND, tyD, d1, d2, d3, d4⟩ := gW
  cases (show (CD, TD, ND) = ("RuleSentences$Words", am_T am_Tl_d, 9) from Option.some.inj (d1.symm.trans rfl))
  have PD := gk_H1_L (K := K) (D := D) (b := b) (ad := ad) (cnt := gk_cnt [1] 48) (U0 := U0) (σ := gk_s0) (H := H) (ci := 2) (n := 0) (mode := 2) it_wds 2 (gk_alx_of _ _ d4) gk_wld_L.2.2.1 (fun t ht h4 i => gk_s0_a (Nat.lt_succ_of_lt (gk_ckS_t gk_ckS_w.2 ht).1) ((gk_ckS_t gk_ckS_w.2 ht).2.1 h4) 0 i) (fun t _ => Nat.zero_mul _)
  rw [ga_Hd_iff]
  intro c n hn
  have hn2 : n < gk_cnt [1] 48 c := hn
  have hc : c < 179 := by
    rcases Nat.lt_or_ge c 179 with z | z
    · exact z
    · unfold gk_cnt at hn2
      rw [if_pos z] at hn2
      omega
  unfold gk_cnt at hn2
  rw [if_neg (by omega)] at hn2
  by_cases s5 : gk_stl.getD c 9 = 5
  · rw [if_pos s5] at hn2
    have ck := List.all_eq_true.mp gk_st5 c (List.mem_range.mpr hc)
    rw [s5] at ck
    have m5 : c ∈ [6, 7, 84, 85, 86, 87] := List.contains_iff_mem.mp (by simpa using ck)
    simp only [List.mem_cons, List.not_mem_nil, or_false] at m5
    rcases m5 with z | z | z | z | z | z <;> subst z
    · rw [if_neg (by decide)] at hn2
      obtain ⟨⟨ty, t1, t2⟩, _⟩ := R n hn2
      exact gk_H1_i (C := "RuleSentences$Rule") (T := am_T am_Tl_q) (N := 11) rfl (by decide) t1 [] t2 (fun k _ _ => rfl) gk_wld_F.2.2.1 (fun k hk _ h0 => gk_s0_f (by decide) (by omega) h0 n) (gk_ckC_n gk_ckC_w.2.2 hn2) (fun k _ hk => by cases hk)
    · rw [if_pos rfl, if_neg (by decide)] at hn2
      have nr : n / 14 < 48 := by omega
      obtain ⟨_, _, _, _, _, o1, o2⟩ := R (n / 14) nr
      have ob : gk_ob0 D 7 (gk_ra b (n / 14) + 5 + n % 14) H := by
        by_cases z : n % 14 < 6
        · have := o1 (n % 14) z
          rw [Nat.mul_one] at this
          exact this
        · have := o2 (n % 14 - 6) (by omega)
          rw [Nat.mul_one, show gk_ra b (n / 14) + 11 + (n % 14 - 6) = gk_ra b (n / 14) + 5 + n % 14 by omega] at this
          exact this
      have ea : gk_adr b ad 7 n = gk_ra b (n / 14) + 5 + n % 14 := by
        show (if n = 686 then b 9 + 14 else gk_ra b (n / 14) + 5 + n % 14) = _
        rw [if_neg (by omega)]
      rw [← ea] at ob
      obtain ⟨CS, TS, NS, tyS, e1, e2, e3⟩ := ob
      cases (show (CS, TS, NS) = ("RuleSentences$Step", am_T am_Tl_s, 7) from Option.some.inj (e1.symm.trans rfl))
      refine gk_H1_i (mode := 0) (s0 := 0) (its := []) (C := "RuleSentences$Step") (T := am_T am_Tl_s) (N := 7) rfl (by decide) e2 [] e3 (fun k _ _ => rfl) gk_wld_F.2.2.2 (fun k hk _ h0 => gk_s0_f (by decide) (by omega) h0 n) (fun k c' hk he h10 => ?_) (fun k _ hk => by cases hk)
      exfalso
      have : (List.range 7).all (fun k => Nat.blt (am_fc 7 k).1 1013) = true := by decide +kernel
      have := Nat.le_of_ble_eq_true (List.all_eq_true.mp this k (List.mem_range.mpr hk))
      omega
    · rw [if_neg (by decide)] at hn2
      obtain ⟨_, r1, _⟩ := R n hn2
      exact gk_H1_p (Y := am_YS (gk_E K D b ad) (gk_cnt [1] 48) U0) (e := 0) (N := 8) (F := 153) rfl rfl (by decide) (fun i => gk_s0_z (by decide) n i) r1
    · rw [if_neg (by decide)] at hn2
      obtain ⟨_, _, r2, _⟩ := R n hn2
      exact gk_H1_p (Y := am_YS (gk_E K D b ad) (gk_cnt [1] 48) U0) (e := 0) (N := 8) (F := 154) rfl rfl (by decide) (fun i => gk_s0_z (by decide) n i) r2
    · rw [if_neg (by decide)] at hn2
      obtain ⟨_, _, _, r3, _⟩ := R n hn2
      exact gk_H1_t (N := 6) (o := 0) rfl (by decide) (by decide) (by omega) (by show 14 * n + 0 + 6 ≤ 14 * 48; omega) rfl r3 (fun i hi => by rw [if_pos hi, Nat.mul_one, Nat.zero_add])
    · rw [if_neg (by decide)] at hn2
      obtain ⟨_, _, _, _, r4, _⟩ := R n hn2
      exact gk_H1_t (N := 8) (o := 6) rfl (by decide) (by decide) (by omega) (by show 14 * n + 6 + 8 ≤ 14 * 48; omega) rfl r4 (fun i hi => by rw [if_pos hi, Nat.mul_one]; congr 1; omega)
  · rw [if_neg s5] at hn2
    by_cases s7 : gk_stl.getD c 9 = 7
    · -- the constants of Token
      rw [if_pos (Or.inl s7)] at hn2
      have c8 : c = 8 := by
        have ck : (List.range 179).all (fun c => !(Nat.beq (gk_stl.getD c 9) 7) || Nat.beq c 8) = true := by decide +kernel
        have := List.all_eq_true.mp ck c (List.mem_range.mpr hc)
        rw [s7] at this
        exact Nat.eq_of_beq_eq_true (by simpa using this)
      subst c8
      obtain ⟨cell, k1, k2, k3⟩ := hTok n hn2
      refine ⟨fun q hq => ?_, fun hq => ?_, fun h1 => ?_⟩
      · have eq : q = ("RuleSentences$Token", am_T [], 0) := Option.some.inj (hq.symm.trans rfl)
        subst eq
        exact ⟨⟨cell, k1, k2, k3, fun z => absurd z (by decide), fun k hk => absurd hk (Nat.not_lt_zero _)⟩, fun k hk => absurd hk (Nat.not_lt_zero _)⟩
      · cases hq
      · cases h1
    · by_cases s1 : gk_stl.getD c 9 = 1
      · rw [if_pos (Or.inr (by rw [s1]; rfl))] at hn2
        have ck := List.all_eq_true.mp gk_st1 c (List.mem_range.mpr hc)
        rw [s1] at ck
        have ck1 : ([1, 2, 21, 44].contains c || gk_has it_wld 1 c || gk_has it_wds 2 c || gk_out it_wld 1 c || gk_row it_wld 1 c) = true := by
          rw [show (!(Nat.beq 1 1)) = false from rfl, Bool.false_or] at ck
          exact ck
        rcases Bool.or_eq_true_iff.mp ck1 with ck2 | ck2
        · rcases Bool.or_eq_true_iff.mp ck2 with ck3 | ck3
          · rcases Bool.or_eq_true_iff.mp ck3 with ck4 | ck4
            · rcases Bool.or_eq_true_iff.mp ck4 with ck5 | ck5
              · have m := List.contains_iff_mem.mp ck5
                simp only [List.mem_cons, List.not_mem_nil, or_false] at m
                rcases m with z | z | z | z <;> subst z
                · -- the world
                  have n0 : n = 0 := by
                    have : n < 1 := hn2
                    omega
                  subst n0
                  refine gk_H1_i (mode := 2) (s0 := 8) (its := it_wld) (C := "RuleSentences$World") (T := am_T am_Tl_w) (N := 47) rfl (by decide) w1 [0] w2 (fun k hk hx => ?_) gk_wld_F.1 (fun k hk _ h0 => gk_s0_f (by decide) (by omega) h0 0) (gk_ckC_1 gk_ckC_w.1) (fun k hk hx => ?_)
                  · have k0 : k ≠ 0 := fun z => hx (by rw [z]; exact List.mem_cons_self)
                    rw [gk_V_fo, gk_V_fo]
                    cases gk_fo it_wld k with
                    | some o => rfl
                    | none =>
                      dsimp only
                      unfold updV
                      rw [if_neg k0]
                  · have k0 : k = 0 := by simpa using hx
                    subst k0
                    rw [gk_V_fo, show gk_fo it_wld 0 = none by decide +kernel]
                    dsimp only
                    unfold updV
                    rw [if_pos rfl]
                    exact ⟨rfl, by decide, by show (0 : Int) < (gk_cnt [1] 48 2 : Nat); decide, fun _ => rfl⟩
                · have n0 : n = 0 := by
                    have : n < 1 := hn2
                    omega
                  subst n0
                  exact gk_H1_i (mode := 2) (s0 := 2) (its := it_wds) (C := "RuleSentences$Words") (T := am_T am_Tl_d) (N := 9) rfl (by decide) d2 [] d3 (fun k _ _ => rfl) gk_wld_F.2.1 (fun k hk _ h0 => gk_s0_f (by decide) (by omega) h0 0) (gk_ckC_1 gk_ckC_w.2.1) (fun k _ hk => by cases hk)
                · have n0 : n = 0 := by
                    have : n < 1 := hn2
                    omega
                  subst n0
                  refine gk_H1_r (Y := am_YS (gk_E K D b ad) (gk_cnt [1] 48) U0) (N := 24) (u := 9) (F := 18) rfl rfl (by decide) g16 (fun i hi => ?_)
                  rw [if_pos hi]
                  show Value.ref _ = (if (i : Int) < 0 then Value.null else Value.ref (gk_ra b ((i : Int)).toNat)) ∧ (-1 ≤ (i : Int) ∧ (i : Int) < ((48 : Nat) : Int) ∧ (am_sing 6 = true → (i : Int) = 0))
                  rw [if_neg (by omega), Int.toNat_natCast]
                  unfold gk_ra
                  rw [if_pos (by omega)]
                  exact ⟨rfl, by omega, by omega, fun z => by cases z⟩
                · have n0 : n = 0 := by
                    have : n < 1 := hn2
                    omega
                  subst n0
                  refine gk_H1_r (Y := am_YS (gk_E K D b ad) (gk_cnt [1] 48) U0) (N := 24) (u := 9) (F := 41) rfl rfl (by decide) g223 (fun i hi => ?_)
                  rw [if_pos hi]
                  show Value.ref _ = (if (24 + (i : Int)) < 0 then Value.null else Value.ref (gk_ra b (24 + (i : Int)).toNat)) ∧ (-1 ≤ 24 + (i : Int) ∧ 24 + (i : Int) < ((48 : Nat) : Int) ∧ (am_sing 6 = true → 24 + (i : Int) = 0))
                  rw [if_neg (by omega), show (24 + (i : Int)).toNat = 24 + i by omega]
                  unfold gk_ra
                  rw [if_pos (by omega)]
                  refine ⟨?_, by omega, by omega, fun z => by cases z⟩
                  congr 1
                  omega
              · obtain ⟨t, t1, t2, t3, t4⟩ := gk_has_t ck5
                have n0 : n = 0 := by rw [t4] at hn2; omega
                have := PW t t1 t3
                rw [t2] at this
                rw [n0]; exact this
            · obtain ⟨t, t1, t2, t3, t4⟩ := gk_has_t ck4
              have n0 : n = 0 := by rw [t4] at hn2; omega
              have := PD t t1 t3
              rw [t2] at this
              rw [n0]; exact this
          · obtain ⟨t, t1, t2, t3, t4⟩ := gk_out_t ck3
            have n0 : n = 0 := by rw [t4] at hn2; omega
            have := (MW t t1 t3).1
            rw [t2] at this
            rw [n0]; exact this
        · obtain ⟨t, t1, t2, t3, t4⟩ := gk_row_t ck2
          have := (MW t t1 t3).2 n (by rw [t4]; exact hn2)
          rw [t2] at this
          exact this
      · exfalso
        rw [if_neg (fun z => by
          rcases z with z | z
          · exact s7 z
          · have := List.contains_iff_mem.mp z
            simp at this
            exact s1 this)] at hn2
        omega

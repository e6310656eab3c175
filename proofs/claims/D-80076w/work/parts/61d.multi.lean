/-! arrays of arrays, just made -/
def gk_ckM (ci mode acc : Nat) (t : gk_it) : Bool := match am_fc ci (gk_k t) with
  | (x, _, _) => match am_ac (x - 1003) with
    | (e, N, u, _, a, z) => match am_ac (x - 1002) with
      | (e2, N2, u2, _, a2, z2) => Nat.beq e 4 && decide (N = (gk_n t : Int)) && Nat.beq u (x + 1) && decide (a = 0) && decide (z = 0) && Nat.beq (gk_kdl.getD (x - 1013) 99) (gk_e t) && Nat.beq e2 (gk_in (gk_e t)) && decide (N2 = (gk_m t : Int)) && Nat.beq u2 0 && decide (a2 = 0) && decide (z2 = 0) && Nat.beq (gk_kdl.getD (x - 1012) 99) e2 && decide (gk_ldl.getD (x - 1012) (0, 0, 0) = (mode, acc + 1, 1)) && Nat.blt mode 20 && !(am_sing (x - 1002)) && Nat.blt x 1181
theorem gk_n10 {x z : Nat} (h : x - 1002 = z) (hx : 1013 ≤ x) : x + 1 - 1000 = z + 3 := by omega
theorem gk_H1_M {K : Nat → ClassId} {D : va_G} {b ad : Nat → Nat} {cnt : Nat → Nat} {U0 : State} {σ : ga_S} {H : Heap} {ci mode acc : Nat} {t : gk_it} (hR : gk_ckR ci mode 0 (gk_k t) acc = true) (hM : gk_ckM ci mode acc t = true) (h7 : 7 ≤ gk_e t) (g : gk_ce K (gk_e t) (gk_n t) (gk_m t) (b mode + acc) H) (hct : gk_n t ≤ cnt ((am_fc ci (gk_k t)).1 - 1002)) (hσ : ∀ n i : Int, σ (am_ac ((am_fc ci (gk_k t)).1 - 1002)).2.2.2.1 n i = 0) :
    ga_H1 (am_YS (gk_E K D b ad) cnt U0) σ H ((am_fc ci (gk_k t)).1 - 1003) 0 ∧ ∀ j, j < gk_n t → ga_H1 (am_YS (gk_E K D b ad) cnt U0) σ H ((am_fc ci (gk_k t)).1 - 1002) j := by
  obtain ⟨a1, a2, a3⟩ := gk_adr_R (b := b) (ad := ad) (n := 0) hR (Nat.zero_mul _)
  unfold gk_ce at g
  rw [if_neg (by omega)] at g
  unfold gk_ckM at hM
  cases hq : am_fc ci (gk_k t) with
  | mk x rx =>
    rw [hq] at a1 a2 a3 hM hct hσ
    dsimp only at a1 a2 a3 hM hct hσ ⊢
    obtain ⟨cA, hA1⟩ : ∃ z, x - 1003 = z := ⟨_, rfl⟩
    obtain ⟨cB, hB1⟩ : ∃ z, x - 1002 = z := ⟨_, rfl⟩
    have e10 : x + 1 - 1000 = cB + 3 := gk_n10 hB1 a1
    rw [hA1] at a3 hM ⊢
    rw [hB1] at hM hct hσ ⊢
    cases hac : am_ac (cA) with
    | mk e r1 =>
      obtain ⟨N, u, F, y1, y2⟩ := r1
      cases hac2 : am_ac (cB) with
      | mk e2 r2 =>
        obtain ⟨N2, u2, F2, w1, w2⟩ := r2
        rw [hac, hac2] at hM
        rw [hac2] at hσ
        dsimp only at hM hσ
        simp only [Bool.and_eq_true, decide_eq_true_eq, Bool.not_eq_true'] at hM
        obtain ⟨⟨⟨⟨⟨⟨⟨⟨⟨⟨⟨⟨⟨⟨⟨m1, m2⟩, m3⟩, m4⟩, m5⟩, m6⟩, m7⟩, m8⟩, m9⟩, m10⟩, m11⟩, m12⟩, m13⟩, m14⟩, m15⟩, m16⟩ := hM
        have f1 : e = 4 := Nat.eq_of_beq_eq_true m1
        have f3 : u = x + 1 := Nat.eq_of_beq_eq_true m3
        have f6 := Nat.eq_of_beq_eq_true m6
        have f7 : e2 = gk_in (gk_e t) := Nat.eq_of_beq_eq_true m7
        have f9 : u2 = 0 := Nat.eq_of_beq_eq_true m9
        have f12 := Nat.eq_of_beq_eq_true m12
        have f14 : mode < 20 := Nat.le_of_ble_eq_true m14
        have f16 : x < 1181 := Nat.le_of_ble_eq_true m16
        have in3 : gk_in (gk_e t) < 3 := by unfold gk_in; split <;> omega
        have len : gk_kdl.length = 169 := by decide +kernel
        have kd : ∀ i z, i < 169 → gk_kdl.getD i 99 = z → gk_kdl.getD i 0 = z := by
          intro i z hi hz
          rw [List.getD_eq_getElem?_getD, List.getElem?_eq_getElem (by omega)] at hz ⊢
          exact hz
        have bs : gk_bs b mode 0 = b mode := by
          unfold gk_bs
          rw [if_neg (by omega), if_neg (by omega), if_neg (by omega), if_neg (by omega)]
        have rowA : ∀ j, gk_adr b ad (cB) j = b mode + acc + 1 + j := by
          intro j
          unfold gk_adr
          rw [if_neg (by omega), if_neg (by omega), if_neg (by omega), if_neg (by omega), if_neg (by omega), if_neg (by omega), if_neg (by omega), if_neg (by omega), if_neg (by omega), if_neg (by omega), show cB - 10 = x - 1012 by omega, m13]
          unfold gk_ar
          dsimp only
          rw [if_neg (by omega), if_neg (by omega), if_neg (by omega), if_neg (by omega)]
          omega
        have cl1 : am_cl[cA]? = none := List.getElem?_eq_none (by show 10 ≤ _; omega)
        have cl2 : am_cl[cB]? = none := List.getElem?_eq_none (by show 10 ≤ _; omega)
        have av : ∀ i : Nat, ga_av (am_ac (cA)) 0 i σ = (cB + 3, (i : Int)) := by
          intro i
          rw [hac]
          unfold ga_av
          dsimp only
          rw [f3, if_neg (by omega), e10, m4, m5]
          rfl
        refine ⟨⟨fun q hq2 => ?_, fun _ => ⟨?_, fun i hi => ?_⟩, fun h1 => ?_⟩, fun j hj => ?_⟩
        · rw [show (am_YS (gk_E K D b ad) cnt U0).2.2.2.2.1[cA]? = none from cl1] at hq2; cases hq2
        · show H[gk_adr b ad (cA) 0]? = some (arrV (gk_cid K D (cA)) (am_ac (cA)).2.1.toNat (fun i => ga_cv (gk_E K D b ad) (ga_av (am_ac (cA)) 0 i σ)))
          rw [a3, bs, g.1]
          have eN : (am_ac (cA)).2.1.toNat = gk_n t := by rw [hac]; dsimp only; rw [m2]; exact Int.toNat_natCast _
          rw [eN]
          unfold gk_cid
          rw [if_neg (by omega), kd (cA - 10) (gk_e t) (by omega) (by rw [show cA - 10 = x - 1013 by omega]; exact f6)]
          refine congrArg some (arrV_ext fun i hi => ?_)
          have hv := av i
          rw [if_pos hi]
          show Value.ref _ = ga_cv (gk_E K D b ad) (ga_av (am_ac (cA)) 0 (i : Int) σ)
          rw [hv]
          show Value.ref _ = (if (i : Int) < 0 then Value.null else Value.ref (gk_adr b ad (cB) ((i : Int)).toNat))
          rw [if_neg (by omega), Int.toNat_natCast, rowA]
        · show ga_vk (am_YS (gk_E K D b ad) cnt U0) (ga_av (am_ac (cA)) 0 (i : Int) σ)
          rw [av]
          have hi2 : (i : Int) < (am_ac (cA)).2.1 := hi
          rw [hac] at hi2
          dsimp only at hi2
          refine ⟨by omega, ?_, fun z => ?_⟩
          · show (i : Int) < (cnt (cB) : Int)
            omega
          · rw [show (am_YS (gk_E K D b ad) cnt U0).2.2.1.1 (cB) = am_sing (cB) from rfl, m15] at z
            cases z
        · have h1' : (am_ac (cA)).1 = 1 := h1
          rw [hac] at h1'
          dsimp only at h1'
          omega
        · refine gk_H1_p (Y := am_YS (gk_E K D b ad) cnt U0) (e := e2) (N := gk_m t) (F := F2) cl2 ?_ (by omega) (fun i => hσ j i) ?_
          · show am_ac (cB) = _
            rw [hac2, m8, f9, m10, m11, if_neg (by omega)]
          · show H[gk_adr b ad (cB) j]? = some (arrV (gk_cid K D (cB)) (gk_m t) (fun _ => gk_dv e2))
            rw [rowA, g.2 j hj]
            unfold gk_cid
            rw [if_neg (by omega), kd (cB - 10) e2 (by omega) (by rw [show cB - 10 = x - 1012 by omega]; exact f12), f7]

/-! the library's members as AM's prims: arraycopy, and all of them -/
section
variable {E : ga_E} {cnt : Nat → Nat} {U0 : State} {D : va_G} {X : ga_CX} {cc : ByteArray} {own : String} {rk : Nat} {r : ga_R} {idx : Nat}
theorem am_isarr {c : Nat} (h : (am_ac c).1 < 4) : c < 179 ∧ am_cl[c]? = none := by
  have h1 : c < 179 := by
    by_cases z : c < 179
    · exact z
    · have := am_ac_hi (c := c) (by omega)
      omega
  refine ⟨h1, ?_⟩
  cases e : am_cl[c]? with
  | none => rfl
  | some q =>
    have hA := am_rng am_ckA_ok h1
    unfold am_ckA at hA
    rw [e] at hA
    have : (am_ac c).1 = 9 := ga_beq (am_and hA).1
    omega
theorem am_p_cpy (hT : ga_TB (am_YS E cnt U0)) (hX : ga_ok (am_YS E cnt U0) X cc own rk r) (hroom : 0 + 1 + 20 ≤ X.2.2.2.1.frames ∧ 80 * (0 + 1) + 2000 ≤ X.2.2.2.1.locals) (hl : Cond.methodLink own idx arraycopyName ∈ ga_gw) {c1 c2 : Nat} {x1 x2 n m sp dp len : Int} {σ : ga_S}
    (hk4 : (am_ac c1).1 < 4) (hk2 : (am_ac c1).1 ≠ 2) (hkk : (am_ac c1).1 = (am_ac c2).1) (hne : c1 ≠ c2) (ho1 : (am_sing c1 = true ∧ n = 0) ∨ (0 ≤ x1 ∧ n = x1)) (ho2 : (am_sing c2 = true ∧ m = 0) ∨ (0 ≤ x2 ∧ m = x2))
    (h1 : 0 ≤ sp) (h2 : 0 ≤ dp) (h3 : 0 ≤ len) (h4 : sp + len ≤ (am_ac c1).2.1) (h5 : dp + len ≤ (am_ac c2).2.1) :
    am_concl (am_YS E cnt U0) X cc false idx (-1) [(c1 + 3, x1), (0, sp), (c2 + 3, x2), (0, dp), (0, len)] σ (0, am_copy σ (am_ac c1).2.2.2.1 n sp (am_ac c2).2.2.2.1 m dp len) := by
  obtain ⟨u1, un1⟩ := am_isarr hk4
  obtain ⟨u2, un2⟩ := am_isarr (c := c2) (by omega)
  obtain ⟨-, lm1, -, ta1, tb1, -⟩ := am_arr u1 un1
  obtain ⟨-, lm2, ne8, ta2, tb2, -⟩ := am_arr u2 un2
  have htag : (am_ac c1).2.2.1 = (am_ac c2).2.2.1 ∧ (am_ac c1).2.2.1 < 999 := by
    by_cases z : (am_ac c1).1 < 3
    · rw [ta1 z, ta2 (by omega)]; omega
    · rw [tb1 (by omega), tb2 (by omega)]; omega
  have hF : (am_ac c2).2.2.2.1 ≠ 330 := hT.2.2.2.2.2 c2 (show (am_ac c2).1 < 5 by omega) (show (am_ac c2).2.2.1 < 999 by omega)
  have hal : ga_al (am_copy σ (am_ac c1).2.2.2.1 n sp (am_ac c2).2.2.2.1 m dp len) = ga_al σ := by
    unfold ga_al am_copy
    rw [if_neg (fun z => hF z.1.symm)]
  refine ⟨by show ga_al σ ≤ ga_al (am_copy _ _ _ _ _ _ _ _); omega, fun pc H ls svs srest locs k a1 a2 a3 a4 a5 a6 a7 kk => ?_⟩
  dsimp only at a7 kk
  rw [hal, Nat.sub_self, Nat.add_zero] at a7 kk
  obtain ⟨w1, r1, rfl, v1, s1⟩ := ga_SR_c a3
  obtain ⟨w2, r2, rfl, v2, s2⟩ := ga_SR_c s1
  obtain ⟨w3, r3, rfl, v3, s3⟩ := ga_SR_c s2
  obtain ⟨w4, r4, rfl, v4, s4⟩ := ga_SR_c s3
  obtain ⟨w5, r5, rfl, v5, s5⟩ := ga_SR_c s4
  have := ga_SR_n s5
  subst this
  obtain ⟨n, rfl, hn, rfl⟩ := ga_ob v1 ho1
  obtain ⟨m, rfl, hm, rfl⟩ := ga_ob v3 ho2
  obtain ⟨rfl, rsp⟩ := ga_vr_i v2
  obtain ⟨rfl, rdp⟩ := ga_vr_i v4
  obtain ⟨rfl, rln⟩ := ga_vr_i v5
  have S := am_Sf hX
  obtain ⟨p, l, e, R, s, mm, args, below, meth, c, Q, nL, a0⟩ := X
  have z1 : 21 ≤ R.frames := hroom.1
  have z2 : 2080 ≤ R.locals := hroom.2
  have hKN : ga_KN (am_YS E cnt U0) s := hX.2.2.2.2.2.2.1
  obtain ⟨hx, hb, hml, hown, hts⟩ := S
  have hn : n < cnt c1 := hn
  have hm : m < cnt c2 := hm
  have hA1 : ArrOfT s (E.2.1 c1) (ga_et (am_ac c1).1) := (hKN.2 c1 un1 (show 0 < cnt c1 by omega)).1 hk4
  have hA2 : ArrOfT s (E.2.1 c2) (ga_et (am_ac c1).1) := by
    have := (hKN.2 c2 un2 (show 0 < cnt c2 by omega)).1 (show (am_ac c2).1 < 4 by omega)
    rw [hkk]
    exact this
  obtain ⟨k1, k2⟩ := (a2 c1 n hn).2.1 un1
  obtain ⟨k3, -⟩ := (a2 c2 m hm).2.1 un2
  have c_sp := ga_clamp rsp h1
  have c_dp := ga_clamp rdp h2
  have c_ln := ga_clamp rln h3
  have hz0 : ga_R32 0 := ⟨by omega, by omega⟩
  have p_sp : ¬ Int32.ofInt sp < 0 := fun z => absurd ((ga_lti rsp hz0).mp z) (by omega)
  have p_dp : ¬ Int32.ofInt dp < 0 := fun z => absurd ((ga_lti rdp hz0).mp z) (by omega)
  have p_ln : ¬ Int32.ofInt len < 0 := fun z => absurd ((ga_lti rln hz0).mp z) (by omega)
  have fin : ∀ (H1 : Heap) (locs1 : List Loc), H1[E.1 c2 m]? = some (arrV (E.2.1 c2) (am_ac c2).2.1.toNat (fun i => ga_cv E (ga_av (am_ac c2) m i (am_copy σ (am_ac c1).2.2.2.1 n sp (am_ac c2).2.2.2.1 m dp len)))) → H1.size = H.size → (∀ q : Nat, q ≠ E.1 c2 m → H1[q]? = H[q]?) → (∀ l ∈ locs1, l ∈ locs ∨ l.base = E.1 c2 m) →
      W p l e R s mm args below meth c H1 locs1 (2 * k) (32 * k) Q (F0 mm (pc + 3) ls srest) := by
    intro H1 locs1 g1 g2 g3 g4
    have hO : ga_isO (am_YS E cnt U0) (E.1 c2 m) := ⟨c2, m, ne8, hm, rfl⟩
    refine kk H1 locs1 [] (ga_Hd_copy hT a2 hn hm un1 un2 htag.2 htag.1 hkk h1 h2 h4 g1 g3) ⟨by omega, fun q y1 y2 => g3 q (fun z => y2 (by rw [z]; exact hO))⟩ (by rw [if_pos rfl]) ⟨by have := a5.1; show s.heap.size ≤ _; rw [g2]; exact this, fun q y1 y2 => ?_, fun q hq => ?_⟩
    · rw [g3 q (fun z => y2 (Or.inl (by rw [z]; exact hO)))]
      exact a5.2.1 q y1 y2
    · rcases g4 q hq with z | z
      · exact a5.2.2 q z
      · rw [z]; exact Or.inl hO
  have cpy_eq : ∀ (j : Nat) , ga_av (am_ac c2) m j (am_copy σ (am_ac c1).2.2.2.1 n sp (am_ac c2).2.2.2.1 m dp len) = ((am_ac c2).2.2.1, if dp.toNat ≤ j ∧ j < dp.toNat + len.toNat then σ (am_ac c1).2.2.2.1 n ((sp.toNat + (j - dp.toNat) : Nat) : Int) else σ (am_ac c2).2.2.2.1 m j) := by
    intro j
    rw [ga_av_copy]
    by_cases z : dp.toNat ≤ j ∧ j < dp.toNat + len.toNat
    · rw [if_pos z, if_pos ⟨by omega, rfl, rfl, by omega, by omega⟩]
      congr 2
      omega
    · rw [if_neg z, if_neg (fun y => z ⟨by omega, by omega⟩)]
      unfold ga_av
      rw [if_pos (by omega)]
  by_cases hk3 : (am_ac c1).1 = 3
  · have e1 : (am_ac c1).2.2.1 = 1 := tb1 hk3
    have e2 : (am_ac c2).2.2.1 = 1 := by rw [← htag.1]; exact e1
    have q1 : (fun i : Nat => ga_cv E (ga_av (am_ac c1) n i σ)) = fun i => .long (Int64.ofInt (σ (am_ac c1).2.2.2.1 n i)) := by
      funext i
      unfold ga_av
      rw [if_pos htag.2, e1]
      rfl
    have q2 : (fun i : Nat => ga_cv E (ga_av (am_ac c2) m i σ)) = fun i => .long (Int64.ofInt (σ (am_ac c2).2.2.2.1 m i)) := by
      funext i
      unfold ga_av
      rw [if_pos (by omega), e2]
      rfl
    have k1 : H[E.1 c1 n]? = some (arrV (E.2.1 c1) (am_ac c1).2.1.toNat (fun i : Nat => ga_cv E (ga_av (am_ac c1) n i σ))) := k1
    have k3 : H[E.1 c2 m]? = some (arrV (E.2.1 c2) (am_ac c2).2.1.toNat (fun i : Nat => ga_cv E (ga_av (am_ac c2) m i σ))) := k3
    rw [q1] at k1
    rw [q2] at k3
    rw [hk3] at hA1 hA2
    refine jm_cpyl (R := R) (rest := srest) (f := fun i => Int64.ofInt (σ (am_ac c1).2.2.2.1 n i)) (g := fun i => Int64.ofInt (σ (am_ac c2).2.2.2.1 m i)) (ty := .long) hx hb (by rw [hml]; exact a1.symm) hown (hts _ hl) (hts _ jw_2_29) (hts _ jw_2_28) (hts _ jw_1_10) k1 k3 hA1 hA2 rfl p_sp p_dp p_ln (by rw [c_sp, c_ln]; omega) (by rw [c_dp, c_ln]; omega) (fun i hi => rfl) (show 1 ≤ R.frames by omega) (Nat.le_trans (Nat.add_le_add_right a4 _) (show 8 + (nativeFrameWords "java/lang/System" "arraycopy" 5 + 11) ≤ R.locals from Nat.le_trans (by decide) z2)) a6 (fun H1 locs1 g1 g2 g3 g4 => fin H1 locs1 ?_ g2 g3 g4)
    rw [g1, c_sp, c_dp, c_ln]
    congr 2
    funext j
    rw [cpy_eq j, e2]
    unfold va_cpy
    split <;> rfl
  · have e1 : (am_ac c1).2.2.1 = 0 := ta1 (by omega)
    have e2 : (am_ac c2).2.2.1 = 0 := by rw [← htag.1]; exact e1
    have q1 : (fun i : Nat => ga_cv E (ga_av (am_ac c1) n i σ)) = fun i => .int (Int32.ofInt (σ (am_ac c1).2.2.2.1 n i)) := by
      funext i
      unfold ga_av
      rw [if_pos htag.2, e1]
      rfl
    have q2 : (fun i : Nat => ga_cv E (ga_av (am_ac c2) m i σ)) = fun i => .int (Int32.ofInt (σ (am_ac c2).2.2.2.1 m i)) := by
      funext i
      unfold ga_av
      rw [if_pos (by omega), e2]
      rfl
    have k1 : H[E.1 c1 n]? = some (arrV (E.2.1 c1) (am_ac c1).2.1.toNat (fun i : Nat => ga_cv E (ga_av (am_ac c1) n i σ))) := k1
    have k3 : H[E.1 c2 m]? = some (arrV (E.2.1 c2) (am_ac c2).2.1.toNat (fun i : Nat => ga_cv E (ga_av (am_ac c2) m i σ))) := k3
    rw [q1] at k1
    rw [q2] at k3
    have hfit : ∀ i : Nat, i < len.toNat → fits (ga_et (am_ac c1).1) (.int (Int32.ofInt (σ (am_ac c1).2.2.2.1 n ((sp.toNat + i : Nat) : Int)))) = true := by
      intro i hi
      by_cases hb1 : (am_ac c1).1 = 1
      · have := (a2 c1 n hn).2.2 hb1 un1 (sp.toNat + i) (show ((sp.toNat + i : Nat) : Int) < (am_ac c1).2.1 by omega)
        have this : ga_R8 (ga_av (am_ac c1) n ((sp.toNat + i : Nat) : Int) σ).2 := this
        unfold ga_av at this
        rw [if_pos htag.2] at this
        rw [hb1]
        have e8 : Int32.ofInt (σ (am_ac c1).2.2.2.1 n ((sp.toNat + i : Nat) : Int)) = (Int32.ofInt (σ (am_ac c1).2.2.2.1 n ((sp.toNat + i : Nat) : Int))).toInt8.toInt32 := by
          rw [ga_i2b]
          congr 1
          unfold w8
          have t1 := this.1
          have t2 := this.2
          dsimp only at t1 t2
          omega
        rw [e8]
        exact pk_fb _
      · rw [show (am_ac c1).1 = 0 by omega]
        rfl
    have hpr : refKind (ga_et (am_ac c1).1) = false := by
      by_cases hb1 : (am_ac c1).1 = 1
      · rw [hb1]; rfl
      · rw [show (am_ac c1).1 = 0 by omega]; rfl
    refine jm_cpyi (R := R) (rest := srest) (f := fun i => Int32.ofInt (σ (am_ac c1).2.2.2.1 n i)) (g := fun i => Int32.ofInt (σ (am_ac c2).2.2.2.1 m i)) (ty := ga_et (am_ac c1).1) hx hb (by rw [hml]; exact a1.symm) hown (hts _ hl) (hts _ jw_2_29) (hts _ jw_2_28) (hts _ jw_1_10) k1 k3 hA1 hA2 hpr p_sp p_dp p_ln (by rw [c_sp, c_ln]; omega) (by rw [c_dp, c_ln]; omega) (fun i hi => by rw [c_ln] at hi; rw [c_sp]; exact hfit i hi) (show 1 ≤ R.frames by omega) (Nat.le_trans (Nat.add_le_add_right a4 _) (show 8 + (nativeFrameWords "java/lang/System" "arraycopy" 5 + 11) ≤ R.locals from Nat.le_trans (by decide) z2)) a6 (fun H1 locs1 g1 g2 g3 g4 => fin H1 locs1 ?_ g2 g3 g4)
    rw [g1, c_sp, c_dp, c_ln]
    congr 2
    funext j
    rw [cpy_eq j, e2]
    unfold va_cpy
    split <;> rfl
end

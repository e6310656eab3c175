/-! the library's members as AM's prims: Math, ordinal -/
theorem jw_5_162 : Cond.sameMethod "RuleSentences$Token" "java/lang/Enum" "ordinal" "()I" ∈ ga_gw := am_at_c (k := 5) (i := 162) rfl rfl
theorem am_ords_at {i : Nat} (h : i < 64) : am_ords.getD i 0 = Int32.ofNat i := by
  unfold am_ords
  rw [List.getD_eq_getElem?_getD, List.getElem?_map, List.getElem?_range h]
  rfl
theorem am_ord_sig {sig : MethodDescriptor} (h : parseMethodDescriptor "()I" = some sig) : 0 = sig.parameters.length := by
  have h3 : (parseMethodDescriptor "()I").map (fun d => d.parameters.length) = some 0 := by decide +kernel
  rw [h] at h3
  exact (Option.some.inj h3).symm
section
variable {E : ga_E} {cnt : Nat → Nat} {U0 : State} {D : va_G} {X : ga_CX} {cc : ByteArray} {own : String} {rk : Nat} {r : ga_R} {idx : Nat}
theorem am_p_max (hX : ga_ok (am_YS E cnt U0) X cc own rk r) (hroom : 0 + 1 + 20 ≤ X.2.2.2.1.frames ∧ 80 * (0 + 1) + 2000 ≤ X.2.2.2.1.locals) (hl : Cond.methodLink own idx ⟨"java/lang/Math", "max", "(II)I"⟩ ∈ ga_gw) {a b : Int} {σ : ga_S} :
    am_concl (am_YS E cnt U0) X cc false idx 0 [(0, a), (0, b)] σ (if a < b then b else a, σ) := by
  refine am_fin (by decide) (fun pc H ls svs srest locs k a1 a2 a3 a4 a5 a6 a7 => ?_)
  obtain ⟨w1, r1, rfl, v1, s1⟩ := ga_SR_c a3
  obtain ⟨w2, r2, rfl, v2, s2⟩ := ga_SR_c s1
  have := ga_SR_n s2
  subst this
  obtain ⟨rfl, ra⟩ := ga_vr_i v1
  obtain ⟨rfl, rb⟩ := ga_vr_i v2
  have S := am_Sf hX
  obtain ⟨p, l, e, R, s, m, args, below, meth, c, Q, nL, a0⟩ := X
  obtain ⟨hx, hb, hml, hown, hts⟩ := S
  have h1 : 21 ≤ R.frames := hroom.1
  have h2 : 2080 ≤ R.locals := hroom.2
  refine ⟨.int (Int32.ofInt (if a < b then b else a)), ga_vr_mi (by split; exact rb; exact ra), fun kk => ?_⟩
  refine va_mmax (R := R) (rest := srest) hx hb (by rw [hml]; exact a1.symm) hown (hts _ hl) (hts _ jw_2_78) (hts _ jw_1_11) (hts _ jw_2_79) (show 1 ≤ R.frames by omega) (show (srest.map fun v => v.category).sum + 13 ≤ R.locals by omega) a7.1 a7.2 a6 ?_
  rw [show (if Int32.ofInt a < Int32.ofInt b then Int32.ofInt b else Int32.ofInt a) = Int32.ofInt (if a < b then b else a) by
    by_cases h : a < b
    · rw [if_pos h, if_pos ((ga_lti ra rb).mpr h)]
    · rw [if_neg h, if_neg (fun z => h ((ga_lti ra rb).mp z))]]
  exact kk
theorem am_p_min (hX : ga_ok (am_YS E cnt U0) X cc own rk r) (hroom : 0 + 1 + 20 ≤ X.2.2.2.1.frames ∧ 80 * (0 + 1) + 2000 ≤ X.2.2.2.1.locals) (hl : Cond.methodLink own idx ⟨"java/lang/Math", "min", "(II)I"⟩ ∈ ga_gw) {a b : Int} {σ : ga_S} :
    am_concl (am_YS E cnt U0) X cc false idx 0 [(0, a), (0, b)] σ (if a < b then a else b, σ) := by
  refine am_fin (by decide) (fun pc H ls svs srest locs k a1 a2 a3 a4 a5 a6 a7 => ?_)
  obtain ⟨w1, r1, rfl, v1, s1⟩ := ga_SR_c a3
  obtain ⟨w2, r2, rfl, v2, s2⟩ := ga_SR_c s1
  have := ga_SR_n s2
  subst this
  obtain ⟨rfl, ra⟩ := ga_vr_i v1
  obtain ⟨rfl, rb⟩ := ga_vr_i v2
  have S := am_Sf hX
  obtain ⟨p, l, e, R, s, m, args, below, meth, c, Q, nL, a0⟩ := X
  obtain ⟨hx, hb, hml, hown, hts⟩ := S
  have h1 : 21 ≤ R.frames := hroom.1
  have h2 : 2080 ≤ R.locals := hroom.2
  refine ⟨.int (Int32.ofInt (if a < b then a else b)), ga_vr_mi (by split; exact ra; exact rb), fun kk => ?_⟩
  refine va_mmin (R := R) (rest := srest) hx hb (by rw [hml]; exact a1.symm) hown (hts _ hl) (hts _ jw_2_81) (hts _ jw_1_11) (hts _ jw_2_82) (show 1 ≤ R.frames by omega) (show (srest.map fun v => v.category).sum + 13 ≤ R.locals by omega) a7.1 a7.2 a6 ?_
  rw [show (if Int32.ofInt b < Int32.ofInt a then Int32.ofInt b else Int32.ofInt a) = Int32.ofInt (if a < b then a else b) by
    by_cases h : b < a
    · rw [if_neg (show ¬ a < b by omega), if_pos ((ga_lti rb ra).mpr h)]
    · rw [if_neg (fun z => h ((ga_lti rb ra).mp z))]
      by_cases h2 : a < b
      · rw [if_pos h2]
      · rw [if_neg h2, show a = b by omega]]
  exact kk
theorem am_p_abs (hX : ga_ok (am_YS E cnt U0) X cc own rk r) (hroom : 0 + 1 + 20 ≤ X.2.2.2.1.frames ∧ 80 * (0 + 1) + 2000 ≤ X.2.2.2.1.locals) (hl : Cond.methodLink own idx ⟨"java/lang/Math", "abs", "(I)I"⟩ ∈ ga_gw) {a : Int} {σ : ga_S} :
    am_concl (am_YS E cnt U0) X cc false idx 0 [(0, a)] σ (if a < 0 then w32 (-a) else a, σ) := by
  refine am_fin (by decide) (fun pc H ls svs srest locs k a1 a2 a3 a4 a5 a6 a7 => ?_)
  obtain ⟨w1, r1, rfl, v1, s1⟩ := ga_SR_c a3
  have := ga_SR_n s1
  subst this
  obtain ⟨rfl, ra⟩ := ga_vr_i v1
  have S := am_Sf hX
  obtain ⟨p, l, e, R, s, m, args, below, meth, c, Q, nL, a0⟩ := X
  obtain ⟨hx, hb, hml, hown, hts⟩ := S
  have h1 : 21 ≤ R.frames := hroom.1
  have h2 : 2080 ≤ R.locals := hroom.2
  have hz0 : ga_R32 0 := ⟨by omega, by omega⟩
  refine ⟨.int (Int32.ofInt (if a < 0 then w32 (-a) else a)), ga_vr_mi (by split; exact ga_w32_r _; exact ra), fun kk => ?_⟩
  refine va_mabs (R := R) (rest := srest) hx hb (by rw [hml]; exact a1.symm) hown (hts _ hl) (hts _ jw_13_96) (hts _ jw_1_11) (hts _ jw_13_97) (show 1 ≤ R.frames by omega) (show (srest.map fun v => v.category).sum + 13 ≤ R.locals by omega) a7.1 a7.2 a6 ?_
  rw [show (if 0 ≤ Int32.ofInt a then Int32.ofInt a else 0 - Int32.ofInt a) = Int32.ofInt (if a < 0 then w32 (-a) else a) by
    show (if Int32.ofInt 0 ≤ Int32.ofInt a then Int32.ofInt a else Int32.ofInt 0 - Int32.ofInt a) = _
    by_cases h : a < 0
    · rw [if_pos h, if_neg (fun z => absurd ((ga_lei hz0 ra).mp z) (by omega)), ga_sub32, show (0 : Int) - a = -a by omega]
    · rw [if_neg h, if_pos ((ga_lei hz0 ra).mpr (by omega))]]
  exact kk
theorem am_p_ord (h8 : cnt 8 = 64) (hX : ga_ok (am_YS E cnt U0) X cc own rk r) (hroom : 0 + 1 + 20 ≤ X.2.2.2.1.frames ∧ 80 * (0 + 1) + 2000 ≤ X.2.2.2.1.locals) (hSx : am_Sx E cnt U0 D (ga_xs X)) (hl : Cond.methodLink own idx ⟨"RuleSentences$Token", "ordinal", "()I"⟩ ∈ ga_gw) {a : Int} {σ : ga_S} (ha : 0 ≤ a) :
    am_concl (am_YS E cnt U0) X cc true idx 0 [(11, a)] σ (a, σ) := by
  refine am_fin (by decide) (fun pc H ls svs srest locs k a1 a2 a3 a4 a5 a6 a7 => ?_)
  obtain ⟨w1, r1, rfl, v1, s1⟩ := ga_SR_c a3
  have := ga_SR_n s1
  subst this
  obtain ⟨e1, g1, g2, -⟩ := ga_vr_o (c := 8) v1
  rw [if_neg (by omega)] at e1
  subst e1
  have g2 : a < (cnt 8 : Int) := g2
  rw [h8] at g2
  have hlt : a.toNat < 64 := by omega
  have S := am_Sf hX
  obtain ⟨p, l, e, R, s, m, args, below, meth, c, Q, nL, a0⟩ := X
  obtain ⟨k1, k2, k3, k4, k5, k6⟩ := (hSx : am_Sx E cnt U0 D s)
  have hq : ∀ q : Nat, q < s.heap.size → ¬ am_isO E cnt q → H[q]? = s.heap[q]? := fun q g1 g2 => a5.2.1 q g1 (am_Ar_re q g1 g2)
  obtain ⟨-, hO, hF⟩ := k5.1 a.toNat (by rw [show am_toks.length = 64 by decide]; exact hlt)
  have hF := hF _ List.mem_cons_self
  dsimp only at hF
  rw [am_ords_at hlt] at hF
  obtain ⟨hx, hb, hml, hown, hts⟩ := S
  have h1 : 21 ≤ R.frames := hroom.1
  have h2 : 2080 ≤ R.locals := hroom.2
  have ea : Int32.ofInt a = Int32.ofNat a.toNat := am_ofI ha
  refine ⟨.int (Int32.ofInt a), ga_vr_mi ⟨by omega, by omega⟩, fun kk => ?_⟩
  rw [ea] at kk
  refine jm_RW (v := some (.int (Int32.ofNat a.toNat))) (va_runU (Ts := ga_gw) (As := []) (C := "RuleSentences$Token") (owner := "java/lang/Enum") (x := ⟨"RuleSentences$Token", "ordinal", "()I"⟩) (y := y_ord.1) ⟨hx, hb, hml, hown, hts⟩ (jm_ord (A := am_isO E cnt) (t := E.1 8 a.toNat) (x := Int32.ofNat a.toNat))
    ⟨⟨rfl, rfl, show 1 + 1 ≤ R.frames by omega, show 8 + (1 + 11) + 60 ≤ R.locals by omega, pay_in hts (jm_wsg g_ord), List.mem_cons_self⟩, hts _ g_ord.2.1, hts _ g_ord.2.2.1, ⟨by decide, by decide⟩, fun sig h => am_ord_sig h, hts _ hl, hts _ jw_5_162, va_Decl.of (hts _ jw_5_165) (hts _ jw_5_166), hts _ jw_5_164, hts _ jw_5_165⟩
    ⟨jm_blind (fun U U' h e1 e2 => ?_), ?_, fun U u1 u2 => ⟨rfl, ?_⟩⟩ rfl rfl a1 rfl (lv_room a4) a6 ⟨a7.1, a7.2⟩) kk
  · show va_OF _ _ _ _ _ _ U' U'.heap
    rw [e2]
    exact va_OF.moved (by rw [e1]; exact Vm.Alike.refl _) h
  · obtain ⟨cell, c1, c2, c3, -⟩ := hO.kept hq
    exact ⟨cell, c1, c2, c3⟩
  · show va_OF _ _ _ _ _ _ U U.heap
    rw [u1]
    exact va_OF.moved u2.alike (hF.kept hq)
end

/-! the check of a property's value -/
section
variable {σ τ : ga_S} {f : Int} {N : Nat}
/-- the kind of whom the property is -/
def pvK (σ : ga_S) : Int := if dN σ (nN σ 0) 2 = -1 then dN σ (nN σ 0) 0 else σ fW_kindOf 0 (dN σ (nN σ 0) 2)
def pvG (σ : ga_S) : Bool := decide (dN σ (nR σ 0) 5 ≠ -1) && (decide (pvK σ = -1) || own σ (pvK σ) (dN σ (nR σ 0) 5))
def pvV (σ : ga_S) (N : Nat) : Bool := vlB σ (σ fW_propertyTypes 0 (dN σ (nR σ 0) 5)) (σ fR_whatAt 0 0) N
def pvA (σ : ga_S) : Int := if pvK σ = -1 then cd σ (σ fR_nameFrom 0 0) 2 else 1000000
def pvB (σ : ga_S) (N : Nat) : Int := if pvG σ = true then (if pvV σ N = true then 1000000 else cd σ (σ fR_whatAt 0 0) 2) else cd σ (σ fR_runFrom 0 0) 2
theorem pvK_r (E : E0 σ τ f N) : (pvK σ = -1 ∨ (0 ≤ pvK σ ∧ pvK σ < σ fW_kinds 0 0)) ∧ (pvK σ = -1 ↔ (dN σ (nN σ 0) 2 = -1 ∧ dN σ (nN σ 0) 0 = -1)) := by
  have rO := e0_dN E (nN σ 0) 2
  have rA := e0_dN E (nN σ 0) 0
  have m2 : mxN σ 2 = σ fW_objects 0 0 := rfl
  have m0 : mxN σ 0 = σ fW_kinds 0 0 := rfl
  have wo := e0_o E
  unfold pvK
  by_cases z : dN σ (nN σ 0) 2 = -1
  · rw [if_pos z]
    exact ⟨by omega, fun y => ⟨z, y⟩, fun y => y.2⟩
  · rw [if_neg z]
    have := wo.2.2.2 (dN σ (nN σ 0) 2) (by omega) (by omega)
    exact ⟨by omega, fun y => by omega, fun y => absurd y.1 z⟩
theorem k_9 (E : E0 σ τ f N) (hf : σ fR_fault 0 0 = 0) (hs : σ fR_sort 0 0 = 9) (hct : σ fT_count 0 0 = N + 1) (BN : frB σ N (σ fR_nameFrom 0 0) (σ fR_nameTo 0 0)) (BR : frB σ N (σ fR_runFrom 0 0) (σ fR_runTo 0 0)) (h0 : 0 ≤ σ fR_whatAt 0 0 ∧ σ fR_whatAt 0 0 < N) (valB : (σ fT_kinds 0 (σ fR_whatAt 0 0) = 1 ∨ σ fT_kinds 0 (σ fR_whatAt 0 0) = 2) ∨ frB σ N (σ fR_whatAt 0 0) N) {e : Nat} (hd : 7 ≤ e) : ∃ σ', c_r_check (e + 2) σ = some (0, σ') ∧ KC σ σ' ∧ fr (ksL ++ stL) σ σ' ∧ FT σ' (min (min 1000000 (pvA σ)) (pvB σ N)) ∧ σ' fR_kind0 0 0 = dN σ (nR σ 0) 5 ∧ σ' fR_object0 0 0 = (if dN σ (nN σ 0) 2 = -1 then 24 + dN σ (nN σ 0) 0 else dN σ (nN σ 0) 2) ∧ (pvG σ = true → vlRow σ (σ fR_whatAt 0 0) N 686 σ') := by
  obtain ⟨K1, F1, _⟩ := k0_ok hf N
  have hN5 := E.1.2.2.1
  have kf := k0_fr σ
  have k16 := (e0_k E).1.1
  have hFO0 := (e0_k E).1
  have wo2 := (e0_o E).2.1
  have wp2 := (e0_p E).2.1
  obtain ⟨kdR, kd1⟩ := pvK_r E
  have rP := e0_dN E (nR σ 0) 5
  have rO := e0_dN E (nN σ 0) 2
  have rA := e0_dN E (nN σ 0) 0
  have m5 : mxN σ 5 = σ fW_properties 0 0 := rfl
  have m2 : mxN σ 2 = σ fW_objects 0 0 := rfl
  have m0 : mxN σ 0 = σ fW_kinds 0 0 := rfl
  have eP' : dN σ (nmT σ (σ fR_runFrom 0 0) (σ fR_runTo 0 0)) 5 = dN σ (nR σ 0) 5 := rfl
  have eO' : dN σ (nmT σ (σ fR_nameFrom 0 0) (σ fR_nameTo 0 0)) 2 = dN σ (nN σ 0) 2 := rfl
  have eA' : dN σ (nmT σ (σ fR_nameFrom 0 0) (σ fR_nameTo 0 0)) 0 = dN σ (nN σ 0) 0 := rfl
  have kdE : pvK σ = if dN σ (nN σ 0) 2 = -1 then dN σ (nN σ 0) 0 else σ fW_kindOf 0 (dN σ (nN σ 0) 2) := rfl
  have egd : pvG σ = (decide (dN σ (nR σ 0) 5 ≠ -1) && (decide (pvK σ = -1) || own σ (pvK σ) (dN σ (nR σ 0) 5))) := rfl
  have evb : vlB σ (σ fW_propertyTypes 0 (dN σ (nR σ 0) 5)) (σ fR_whatAt 0 0) N = pvV σ N := rfl
  unfold pvA pvB
  obtain ⟨gd, eg⟩ : ∃ x, x = pvG σ := ⟨_, rfl⟩
  obtain ⟨vb, ev⟩ : ∃ x, x = pvV σ N := ⟨_, rfl⟩
  obtain ⟨kd, ek⟩ : ∃ x, x = pvK σ := ⟨_, rfl⟩
  obtain ⟨P, eP⟩ : ∃ x, x = dN σ (nR σ 0) 5 := ⟨_, rfl⟩
  obtain ⟨O, eO⟩ : ∃ x, x = dN σ (nN σ 0) 2 := ⟨_, rfl⟩
  obtain ⟨A, eA⟩ : ∃ x, x = dN σ (nN σ 0) 0 := ⟨_, rfl⟩
  obtain ⟨W, eW⟩ : ∃ x, x = σ fR_whatAt 0 0 := ⟨_, rfl⟩
  rw [← eg, ← ev, ← ek, ← eP, ← eO, ← eA, ← eW]
  rw [← ek] at kdR kd1 kdE egd
  rw [← eg] at egd
  rw [← ev] at evb
  rw [← eP] at rP egd evb eP'
  rw [← eO] at rO kd1 kdE eO'
  rw [← eA] at rA kd1 kdE eA'
  rw [← eW] at h0 valB evb
  have tR0 := frB_t BR
  have tR1 := frB_t BN
  clear eP eO eA ek ev eg
  -- the component
  obtain ⟨σ2, a1, a2, a3, a4⟩ := k_mean E K1 BR (d := e) (by omega) 5
  obtain ⟨σ3, b1, b2, b3, b4⟩ := k_mean E a4 BN (d := e) (by omega) 2
  obtain ⟨σ4, c1, c2, c3, c4⟩ := k_mean E b4 BN (d := e) (by omega) 0
  rw [eP'] at a1
  rw [eO'] at b1
  rw [eA'] at c1
  have f14 : fr spL (k0 σ) σ4 := fr_trans a2 (fr_trans b2 c2)
  have F4 := FT_f F1 f14 (by decide)
  have x1 : (k0 σ) fR_runFrom 0 0 = σ fR_runFrom 0 0 ∧ (k0 σ) fR_runTo 0 0 = σ fR_runTo 0 0 := ⟨by rw [kf _ (by decide)], by rw [kf _ (by decide)]⟩
  have y1 : (k0 σ) fR_nameFrom 0 0 = σ fR_nameFrom 0 0 ∧ (k0 σ) fR_nameTo 0 0 = σ fR_nameTo 0 0 := ⟨by rw [kf _ (by decide)], by rw [kf _ (by decide)]⟩
  have rA24 : -1 ≤ A ∧ A ≤ 100 := by omega
  -- the end
  have last : ∀ (σx : ga_S), KC σ σx → ∃ σ', r_checkProperty_175 e σx P O A = some (0, σ') ∧ KC σ σ' ∧ fr [fR_object0, fR_kind0] σx σ' ∧ σ' fR_kind0 0 0 = P ∧ σ' fR_object0 0 0 = if O = -1 then 24 + A else O := by
    intro σx Kx
    obtain ⟨v, ev'⟩ : ∃ x : Int, x = if O = -1 then 24 + A else O := ⟨_, rfl⟩
    obtain ⟨σy, ey⟩ : ∃ x, x = ga_up (ga_up σx fR_object0 0 0 v) fR_kind0 0 0 P := ⟨_, rfl⟩
    have fy : fr [fR_object0, fR_kind0] σx σy := by rw [ey]; exact fr_trans (fr_u (by decide)) (fr_u (by decide))
    refine ⟨σy, ?_, KC_f Kx fy (by decide), fy, by rw [ey, up_eq], by rw [ey, up_F (by decide), up_eq]; exact ev'⟩
    rw [e_r_checkProperty_175]
    by_cases z : O = -1
    · rw [if_pos z] at ev'
      rw [if_pos z, w32_ok (by omega), ← ev', e_r_checkProperty_189, ← ey]
    · rw [if_neg z] at ev'
      rw [if_neg z, ← ev', e_r_checkProperty_189, ← ey]
  have bad : ∀ (σx : ga_S) (cx : Int), KC σ σx → FT σx cx → fr ndL (k0 σ) σx → ∃ σ', r_checkProperty_119 e σx P O A = r_checkProperty_175 e σ' P O A ∧ KC σ σ' ∧ FT σ' (min cx (cd σ (σ fR_runFrom 0 0) 2)) ∧ fr (vlL ++ ndL) σx σ' := by
    intro σx cx Kx Fx fx
    obtain ⟨σy, u1, u2, u3⟩ := k_note E.2.1 hN5 Kx Fx (t := σ fR_runFrom 0 0) (r := 2) (why := 4) tR0 (by omega) (by decide) (d := e) (by omega)
    refine ⟨σy, ?_, KC_f Kx u2 (by decide), u3, fr_sub u2 (by decide)⟩
    rw [e_r_checkProperty_119, fx fR_runFrom (by decide), x1.1, u1]
    rfl
  have val : P ≠ -1 → ∀ (σx : ga_S) (cx : Int), KC σ σx → FT σx cx → fr ndL (k0 σ) σx → ∃ σ', r_checkProperty_133 e σx P O A = r_checkProperty_175 e σ' P O A ∧ KC σ σ' ∧ FT σ' (min cx (if vb = true then 1000000 else cd σ W 2)) ∧ vlRow σ W N 686 σ' ∧ fr (vlL ++ ndL) σx σ' := by
    intro hP σx cx Kx Fx fx
    obtain ⟨σy, u1, u2, u3, u4, u5⟩ := k_value E Kx (s := 0 + 686) (at' := W) (to := N) (σ fW_propertyTypes 0 P) (by decide) (Or.inl (by decide)) h0 valB (d := e) (by omega)
    have e686 : (0 : Int) + 686 = 686 := by decide
    rw [evb] at u1
    have wx : σx fR_whatAt 0 0 = W := by rw [fx _ (by decide), kf _ (by decide), eW]
    have wy : σy fR_whatAt 0 0 = W := by rw [u2 _ (by decide)]; exact wx
    have cx' : w32 (σx fT_count 0 0 - 1) = (N : Int) := by rw [Kx.2.1 _ (by decide), hct, w32_ok (by omega)]; omega
    have run : r_checkProperty_133 e σx P O A = (if b2i vb = 0 then (c_r_note e σy 4 (σy fR_whatAt 0 0)).bind (fun q7 => r_checkProperty_175 e q7.2 P O A) else r_checkProperty_175 e σy P O A) := by
      rw [e_r_checkProperty_133, ck_ok _ (by omega), Kx.1 fW_propertyTypes (by decide), wx, cx', u1]
      rfl
    have Fy := FT_f Fx u2 (by decide)
    rw [e686] at u5
    cases hvb : vb with
    | true =>
      rw [hvb, if_neg b2i_n] at run
      refine ⟨σy, run, u3, ?_, u5, fr_sub u2 (by decide)⟩
      rw [if_pos rfl, Int.min_eq_left (FT_le Fx)]; exact Fy
    | false =>
      obtain ⟨σz, v1, v2, v3⟩ := k_note E.2.1 hN5 u3 Fy (t := W) (r := 2) (why := 4) (by omega) (by omega) (by decide) (d := e) (by omega)
      rw [hvb, if_pos b2i_f, wy, v1] at run
      refine ⟨σz, run, KC_f u3 v2 (by decide), ?_, ?_, fr_trans (fr_sub u2 (by decide)) (fr_sub v2 (by decide))⟩
      · rw [if_neg (by decide)]; exact v3
      · unfold vlRow at u5 ⊢
        rw [v2 _ (by decide), v2 _ (by decide), v2 _ (by decide)]
        exact u5
  obtain ⟨σ5, d1, d2, d3, d4⟩ : ∃ σ5, c_r_checkProperty (e + 1) (k0 σ) = r_checkProperty_75 e σ5 P O A ∧ KC σ σ5 ∧ FT σ5 (min 1000000 (if kd = -1 then cd σ (σ fR_nameFrom 0 0) 2 else 1000000)) ∧ fr ndL (k0 σ) σ5 := by
    have run0 := e_r_checkProperty e (k0 σ)
    rw [x1.1, x1.2, a1] at run0
    simp only [Option.bind_some] at run0
    rw [a2 fR_nameFrom (by decide), a2 fR_nameTo (by decide), y1.1, y1.2, b1] at run0
    simp only [Option.bind_some] at run0
    rw [b2 fR_nameFrom (by decide), b2 fR_nameTo (by decide), a2 fR_nameFrom (by decide), a2 fR_nameTo (by decide), y1.1, y1.2, c1] at run0
    simp only [Option.bind_some] at run0
    rw [run0]
    by_cases z : kd = -1
    · have z2 := kd1.mp z
      obtain ⟨σy, u1, u2, u3⟩ := k_note E.2.1 hN5 c4 F4 (t := σ fR_nameFrom 0 0) (r := 2) (why := 4) tR1 (by omega) (by decide) (d := e) (by omega)
      rw [if_pos z2.1, if_pos z2.2, f14 fR_nameFrom (by decide), y1.1, u1]
      exact ⟨σy, rfl, KC_f c4 u2 (by decide), by rw [if_pos z]; exact u3, fr_trans (fr_sub f14 (by decide)) (fr_sub u2 (by decide))⟩
    · refine ⟨σ4, ?_, c4, by rw [if_neg z]; exact F4, fr_sub f14 (by decide)⟩
      by_cases z1 : O = -1
      · rw [if_pos z1, if_neg (fun y => z (kd1.mpr ⟨z1, y⟩))]
      · rw [if_neg z1]
  -- the component, behind that
  have hFO : FO (σ5 fW_parents 0) (σ fW_kinds 0 0) := by rw [d2.1 _ (by decide)]; exact hFO0
  obtain ⟨σ6, g1, g2, g3, g4, g5⟩ : ∃ σ6, r_checkProperty_75 e σ5 P O A = r_checkProperty_175 e σ6 P O A ∧ KC σ σ6 ∧ FT σ6 (min (min 1000000 (if kd = -1 then cd σ (σ fR_nameFrom 0 0) 2 else 1000000)) (if gd = true then (if vb = true then 1000000 else cd σ W 2) else cd σ (σ fR_runFrom 0 0) 2)) ∧ (gd = true → vlRow σ W N 686 σ6) ∧ fr (vlL ++ ndL) σ5 σ6 := by
    rw [e_r_checkProperty_75]
    by_cases hP : P = -1
    · have g0 : gd = false := by rw [egd, decide_eq_false (fun y => y hP), Bool.false_and]
      obtain ⟨σ6, u1, u2, u3, u4⟩ := bad σ5 _ d2 d3 d4
      rw [if_pos hP, u1, g0, if_neg (show ¬ (false = true) by decide)]
      exact ⟨σ6, rfl, u2, u3, (fun y => by cases y), u4⟩
    · obtain ⟨σv, u1, u2, u3, u4, u5⟩ := val hP σ5 _ d2 d3 d4
      rw [if_neg hP]
      by_cases z : kd = -1
      · have z2 := kd1.mp z
        have g0 : gd = true := by rw [egd, decide_eq_true hP, decide_eq_true z]; rfl
        rw [if_pos z2.1, if_pos z2.2, u1, g0, if_pos (show true = true from rfl)]
        exact ⟨σv, rfl, u2, u3, (fun _ => u4), u5⟩
      · have s90 : r_checkProperty_90 e σ5 P O A = r_checkProperty_112 e σ5 P O A kd := by
          rw [e_r_checkProperty_90, kdE]
          by_cases z1 : O = -1
          · rw [if_pos z1, if_pos z1]
          · rw [if_neg z1, if_neg z1, ck_ok _ (by omega), d2.1 fW_kindOf (by decide)]
        have s75 : (if O = -1 then if A = -1 then r_checkProperty_133 e σ5 P O A else r_checkProperty_90 e σ5 P O A else r_checkProperty_90 e σ5 P O A) = r_checkProperty_112 e σ5 P O A kd := by
          by_cases z1 : O = -1
          · rw [if_pos z1, if_neg (fun y => z (kd1.mpr ⟨z1, y⟩)), s90]
          · rw [if_neg z1, s90]
        rw [s75, e_r_checkProperty_112, s_w_owns hFO (by omega) (by omega) (by omega) (by omega), own_K d2]
        simp only [Option.bind_some]
        cases ow : own σ kd P with
        | true =>
          have g0 : gd = true := by rw [egd, decide_eq_true hP, ow, Bool.or_true]; rfl
          rw [if_neg b2i_n, u1, g0, if_pos (show true = true from rfl)]
          exact ⟨σv, rfl, u2, u3, (fun _ => u4), u5⟩
        | false =>
          have g0 : gd = false := by rw [egd, ow, decide_eq_false (p := kd = -1) z, Bool.or_false, Bool.and_false]
          obtain ⟨σ6, v1, v2, v3, v4⟩ := bad σ5 _ d2 d3 d4
          rw [if_pos b2i_f, v1, g0, if_neg (show ¬ (false = true) by decide)]
          exact ⟨σ6, rfl, v2, v3, (fun y => by cases y), v4⟩
  obtain ⟨σ7, l1, l2, l3, l4, l5⟩ := last σ6 g2
  have hC : c_r_check (e + 2) σ = some (0, σ7) := by
    rw [e_r_check, hs]
    iterate 9 rw [if_neg (by decide)]
    rw [if_pos rfl]
    show ((c_r_checkProperty (e + 1) (k0 σ)).bind _) = _
    rw [d1, g1, l1]
    rfl
  refine ⟨σ7, hC, l2, (fr_trans (fr_sub kf (by decide)) (fr_trans (fr_sub d4 (by decide)) (fr_trans (fr_sub g5 (by decide)) (fr_sub l3 (by decide))))), FT_f g3 l3 (by decide), l4, l5, fun y => ?_⟩
  have r := g4 y
  unfold vlRow at r ⊢
  rw [l3 _ (by decide), l3 _ (by decide), l3 _ (by decide)]
  exact r
theorem m_9 (E : E0 σ τ f N) (ht : τ fM_sort 0 0 = 9) (R1 : RU σ τ f N 1 (σ fR_nameFrom 0 0) (σ fR_nameTo 0 0)) (R0 : RU σ τ f N 0 (σ fR_runFrom 0 0) (σ fR_runTo 0 0)) (hw : τ fM_what 0 0 = f + σ fR_whatAt 0 0) (h0 : 0 ≤ σ fR_whatAt 0 0 ∧ σ fR_whatAt 0 0 < N) (ho : σ fR_runFrom 0 0 ≤ σ fR_whatAt 0 0) (hv : (σ fT_kinds 0 (σ fR_whatAt 0 0) = 1 ∨ σ fT_kinds 0 (σ fR_whatAt 0 0) = 2) ∨ RU σ τ f N 2 (σ fR_whatAt 0 0) N) (hq : 0 ≤ τ fM_tests 0 0 ∧ τ fM_tests 0 0 < 2400) {e : Nat} (hd : 7 ≤ e) (first : Int) : ∃ τ', c_m_asked (e + 2) τ first = some (0, τ') ∧ KM τ τ' ∧ GT τ' (min (min 1000000 (pvA σ)) (pvB σ N)) ∧ fr (a0L ++ vlM) τ τ' ∧ qKp (τ fM_tests 0 0) τ τ' ∧ (pvG σ = true → vlRoM σ (σ fR_whatAt 0 0) N (τ fM_tests 0 0) τ') := by
  obtain ⟨M1, G1, _⟩ := a0_ok σ τ f N
  have af := a0_fr τ
  have wo := e0_o E
  have wo2 := wo.2.1
  have wp := e0_p E
  have wp2 := wp.2.1
  obtain ⟨kdR, kd1⟩ := pvK_r E
  have rP := e0_dN E (nR σ 0) 5
  have rO := e0_dN E (nN σ 0) 2
  have m5 : mxN σ 5 = σ fW_properties 0 0 := rfl
  have m2 : mxN σ 2 = σ fW_objects 0 0 := rfl
  have eP' : dN σ (nmT σ (σ fR_runFrom 0 0) (σ fR_runTo 0 0)) 5 = dN σ (nR σ 0) 5 := rfl
  have eO' : dN σ (nmT σ (σ fR_nameFrom 0 0) (σ fR_nameTo 0 0)) 2 = dN σ (nN σ 0) 2 := rfl
  have eA' : dN σ (nmT σ (σ fR_nameFrom 0 0) (σ fR_nameTo 0 0)) 0 = dN σ (nN σ 0) 0 := rfl
  have kdE : pvK σ = if dN σ (nN σ 0) 2 = -1 then dN σ (nN σ 0) 0 else σ fW_kindOf 0 (dN σ (nN σ 0) 2) := rfl
  have egd : pvG σ = (decide (dN σ (nR σ 0) 5 ≠ -1) && (decide (pvK σ = -1) || own σ (pvK σ) (dN σ (nR σ 0) 5))) := rfl
  have evb : vlB σ (σ fW_propertyTypes 0 (dN σ (nR σ 0) 5)) (σ fR_whatAt 0 0) N = pvV σ N := rfl
  unfold pvA pvB
  obtain ⟨gd, eg⟩ : ∃ x, x = pvG σ := ⟨_, rfl⟩
  obtain ⟨vb, ev⟩ : ∃ x, x = pvV σ N := ⟨_, rfl⟩
  obtain ⟨kd, ek⟩ : ∃ x, x = pvK σ := ⟨_, rfl⟩
  obtain ⟨P, eP⟩ : ∃ x, x = dN σ (nR σ 0) 5 := ⟨_, rfl⟩
  obtain ⟨O, eO⟩ : ∃ x, x = dN σ (nN σ 0) 2 := ⟨_, rfl⟩
  obtain ⟨A, eA⟩ : ∃ x, x = dN σ (nN σ 0) 0 := ⟨_, rfl⟩
  obtain ⟨W, eW⟩ : ∃ x, x = σ fR_whatAt 0 0 := ⟨_, rfl⟩
  rw [← eg, ← ev, ← ek, ← eW]
  rw [← ek] at kdR kd1 kdE egd
  rw [← eg] at egd
  rw [← ev] at evb
  rw [← eP] at rP egd evb eP'
  rw [← eO] at rO kd1 kdE eO'
  rw [← eA] at kd1 kdE eA'
  rw [← eW] at h0 hv evb hw ho
  have tR0 := frB_t R0.2.2.2
  have tR1 := frB_t R1.2.2.2
  have cW := cd_r E.2.1 (t := W) (r := 2) (by omega) (by omega)
  have cR0 := cd_r E.2.1 tR0 (r := 2) (by omega)
  have cle : cd σ (σ fR_runFrom 0 0) 2 ≤ cd σ W 2 := by
    by_cases z : σ fR_runFrom 0 0 = W
    · rw [z]; exact Int.le_refl _
    · have := cd_lt E.2.1 tR0.1 (show σ fR_runFrom 0 0 < W by omega) (by omega) (r := 2) (s := 2) (by omega) (by omega)
      omega
  obtain ⟨cA, ecA⟩ : ∃ x, x = if kd = -1 then cd σ (σ fR_nameFrom 0 0) 2 else 1000000 := ⟨_, rfl⟩
  obtain ⟨cB, ecB⟩ : ∃ x, x = if gd = true then (if vb = true then 1000000 else cd σ W 2) else cd σ (σ fR_runFrom 0 0) 2 := ⟨_, rfl⟩
  rw [← ecA, ← ecB]
  clear eP eO eA ek ev eg
  -- the model
  have mr1 := m_meansRun E M1 R1.2.2.2 R1.1 R1.2.1 R1.2.2.1 (d := e) (by omega) 4
  have mr0 := m_meansRun E M1 R1.2.2.2 R1.1 R1.2.1 R1.2.2.1 (d := e) (by omega) 0
  have mr5 := m_meansRun E M1 R0.2.2.2 R0.1 R0.2.1 R0.2.2.1 (d := e) (by omega) 7
  rw [mN_dN (s := 2) (ms := 4) (by omega), eO'] at mr1
  rw [mN_dN (s := 0) (ms := 0) (by omega), eA'] at mr0
  rw [mN_dN (s := 5) (ms := 7) (by omega), eP'] at mr5
  have ca : ∀ G, G ∉ ckM → (a0 τ) G = τ G := M1
  obtain ⟨τ2, u1, u2, u3, u4⟩ := m_need E M1 G1 (t := σ fR_nameFrom 0 0) (t' := f + σ fR_nameFrom 0 0) (r := 2) (why := 4) (g := if kd = -1 then 0 else 1) tR1 rfl (by omega) (by decide) (d := e) (by omega)
  have u4' : GT τ2 (min 1000000 cA) := by
    by_cases z : kd = -1
    · rw [if_pos z, if_pos rfl] at u4; rw [if_pos z] at ecA; rw [ecA]; exact u4
    · rw [if_neg z, if_neg (by decide)] at u4; rw [if_neg z] at ecA; rw [ecA]; exact u4
  obtain ⟨τ3, v1, v2, v3, v4⟩ := m_need E u3 u4' (t := σ fR_runFrom 0 0) (t' := f + σ fR_runFrom 0 0) (r := 2) (why := 4) (g := b2i gd) tR0 rfl (by omega) (by decide) (d := e) (by omega)
  have K3 : ∀ G, G ∉ ckM → τ3 G = τ G := v3
  -- the value
  obtain ⟨τ4, w1, w2, w3, w4, w5, w6⟩ : ∃ τ4, (if P = -1 then some ((0 : Int), τ3) else ga_ck P 12 ((c_m_whatMeant e τ3 (τ3 fM_what 0 0) 2 (τ3 fM_propertyType 0 P) (τ3 fM_tests 0 0)).bind fun q7 => some (0, q7.2))) = some (0, τ4) ∧ fr vlM τ3 τ4 ∧ KM τ τ4 ∧ qKp (τ fM_tests 0 0) τ3 τ4 ∧ GT τ4 (min (min 1000000 cA) cB) ∧ (gd = true → vlRoM σ W N (τ fM_tests 0 0) τ4) := by
    by_cases hP : P = -1
    · have g0 : gd = false := by rw [egd, decide_eq_false (fun y => y hP), Bool.false_and]
      rw [g0, if_neg (by decide)] at ecB
      rw [g0, if_pos b2i_f] at v4
      rw [if_pos hP]
      exact ⟨τ3, rfl, fr_refl _ _, v3, qKp_r _ _, by rw [ecB]; exact v4, fun y => by rw [g0] at y; cases y⟩
    · obtain ⟨τ4, w1, w2, w3, w4, w5, w6⟩ := m_whatMeant E v3 v4 (q := τ fM_tests 0 0) (at' := W) (to := N) (r := 2) (σ fW_propertyTypes 0 P) hq h0 (by
        exact hv) (d := e) (by omega)
      have pt := wp.2.2.2.1 P (by omega) (by omega)
      rw [evb] at w5
      refine ⟨τ4, ?_, w2, w3, w4, ?_, fun _ => w6⟩
      · rw [if_neg hP, ck_ok _ (by omega), K3 fM_what (by decide), hw, K3 fM_propertyType (by decide), pt.2.2, K3 fM_tests (by decide), w1]
        rfl
      · cases hgd : gd with
        | true =>
          rw [hgd, if_neg b2i_n] at w5
          rw [hgd, if_pos rfl] at ecB
          rw [ecB]
          have : min (min (min 1000000 cA) 1000000) (if vb = true then 1000000 else cd σ W 2) = min (min 1000000 cA) (if vb = true then 1000000 else cd σ W 2) := by omega
          rw [this] at w5
          exact w5
        | false =>
          rw [hgd, if_pos b2i_f] at w5
          rw [hgd, if_neg (by decide)] at ecB
          rw [ecB]
          have : min (min (min 1000000 cA) (cd σ (σ fR_runFrom 0 0) 2)) (if vb = true then 1000000 else cd σ W 2) = min (min 1000000 cA) (cd σ (σ fR_runFrom 0 0) 2) := by
            split <;> omega
          rw [this] at w5
          exact w5
  have s81 : m_askProperty_81 e τ2 P (b2i gd) = some (0, τ4) := by
    rw [e_m_askProperty_81, u3 fM_runFrom (by decide), R0.2.1, v1]
    simp only [Option.bind_some]
    exact w1
  have s47 : m_askProperty_47 e (a0 τ) kd P (if kd = -1 then 0 else 1) = some (0, τ4) := by
    rw [e_m_askProperty_47, ca fM_runFrom (by decide), R1.2.1, u1]
    simp only [Option.bind_some]
    by_cases hP : P = -1
    · have g0 : gd = false := by rw [egd, decide_eq_false (fun y => y hP), Bool.false_and]
      rw [g0] at s81
      rw [if_pos hP, e_m_askProperty_80]; exact s81
    · rw [if_neg hP]
      by_cases z : kd = -1
      · have g0 : gd = true := by rw [egd, decide_eq_true hP, decide_eq_true z]; rfl
        rw [g0] at s81
        rw [if_pos z, e_m_askProperty_76]; exact s81
      · rw [if_neg z, m_own E u3 (by omega) (by omega) (by omega)]
        simp only [Option.bind_some]
        cases ow : own σ kd P with
        | true =>
          have g0 : gd = true := by rw [egd, decide_eq_true hP, ow, Bool.or_true]; rfl
          rw [g0] at s81
          rw [if_neg b2i_n, e_m_askProperty_76]; exact s81
        | false =>
          have g0 : gd = false := by rw [egd, ow, decide_eq_false (p := kd = -1) z, Bool.or_false, Bool.and_false]
          rw [g0] at s81
          rw [if_pos b2i_f, e_m_askProperty_80]; exact s81
  have s27 : m_askProperty_27 e (a0 τ) kd = some (0, τ4) := by
    rw [e_m_askProperty_27, mr5]
    simp only [Option.bind_some]
    rw [if_app (m_askProperty_47 e (a0 τ) kd P), s47]
  have hM : c_m_asked (e + 2) τ first = some (0, τ4) := by
    rw [e_m_asked, ht]
    iterate 9 rw [if_neg (by decide)]
    rw [if_pos rfl]
    show ((c_m_askProperty (e + 1) (a0 τ)).bind _) = _
    rw [e_m_askProperty, mr1]
    simp only [Option.bind_some]
    by_cases z1 : O = -1
    · rw [if_pos z1] at kdE
      rw [if_pos z1, mr0]
      simp only [Option.bind_some]
      rw [← kdE, s27]
      rfl
    · rw [if_neg z1] at kdE
      rw [if_neg z1, ck_ok _ (by omega), ca fM_kindOf (by decide), (wo.2.2.2 O (by omega) (by omega)).2.2, ← kdE, s27]
      rfl
  exact ⟨τ4, hM, w3, w5, fr_trans (fr_sub af (by decide)) (fr_trans (fr_sub u2 (by decide)) (fr_trans (fr_sub v2 (by decide)) (fr_sub w2 (by decide)))), qKp_t (qKp_f af (by decide)) (qKp_t (qKp_f u2 (by decide)) (qKp_t (qKp_f v2 (by decide)) w4)), w6⟩
theorem ck_9 (E : E0 σ τ f N) (hf : σ fR_fault 0 0 = 0) (hm : τ fM_runs 0 0 ≤ 2600) (hs : σ fR_sort 0 0 = 9) (ht : τ fM_sort 0 0 = 9) (hct : σ fT_count 0 0 = N + 1) (n0 : nn σ τ f 0 1) (r0 : rr σ τ f 0 0) (hw : τ fM_what 0 0 = f + σ fR_whatAt 0 0) (h0 : 0 ≤ σ fR_whatAt 0 0 ∧ σ fR_whatAt 0 0 < N) (ho : σ fR_runFrom 0 0 ≤ σ fR_whatAt 0 0) (hv : (σ fT_kinds 0 (σ fR_whatAt 0 0) = 1 ∨ σ fT_kinds 0 (σ fR_whatAt 0 0) = 2) ∨ (σ fR_runFrom 0 1 = σ fR_whatAt 0 0 ∧ rr σ τ f 1 2 ∧ σ fR_runTo 0 1 = N)) (hq : 0 ≤ τ fM_tests 0 0 ∧ τ fM_tests 0 0 < 2400) {d : Nat} (hd : 7 ≤ d) (first : Int) : ∃ σ' τ' c, c_r_check (d + 2) σ = some (0, σ') ∧ c_m_asked (d + 2) τ first = some (0, τ') ∧ KC σ σ' ∧ KM τ τ' ∧ FT σ' c ∧ GT τ' c ∧ fr (ksL ++ stL) σ σ' ∧ fr (a0L ++ vlM) τ τ' ∧ qKp (τ fM_tests 0 0) τ τ' ∧ (c = 1000000 → pvK σ ≠ -1 ∧ dN σ (nR σ 0) 5 ≠ -1 ∧ own σ (pvK σ) (dN σ (nR σ 0) 5) = true ∧ pvV σ N = true ∧ σ' fR_kind0 0 0 = dN σ (nR σ 0) 5 ∧ σ' fR_object0 0 0 = (if dN σ (nN σ 0) 2 = -1 then 24 + dN σ (nN σ 0) 0 else dN σ (nN σ 0) 2) ∧ vlRow σ (σ fR_whatAt 0 0) N 686 σ' ∧ vlRoM σ (σ fR_whatAt 0 0) N (τ fM_tests 0 0) τ') := by
  have R0 := RU_of E.1 r0 hm
  have R1 := RU_of E.1 n0 hm
  obtain ⟨σ', a1, a2, a7, a3, a4, a5, a6⟩ := k_9 E hf hs hct R1.2.2.2 R0.2.2.2 h0 (by
    rcases hv with y | y
    · exact Or.inl y
    · have := rnR_B E.1 y.2.1
      rw [y.1, y.2.2] at this
      exact Or.inr this) (e := d) hd
  obtain ⟨τ', b1, b2, b3, b4, b5, b6⟩ := m_9 E ht R1 R0 hw h0 ho (by
    rcases hv with y | y
    · exact Or.inl y
    · have R2 := RU_of E.1 y.2.1 hm
      rw [y.1, y.2.2] at R2
      exact Or.inr R2) hq (e := d) hd first
  refine ⟨σ', τ', _, a1, b1, a2, b2, a3, b3, a7, b4, b5, fun z => ?_⟩
  have tR0 := frB_t R0.2.2.2
  have tR1 := frB_t R1.2.2.2
  have c1 := cd_r E.2.1 tR1 (r := 2) (by omega)
  have c2 := cd_r E.2.1 tR0 (r := 2) (by omega)
  have c3 := cd_r E.2.1 (t := σ fR_whatAt 0 0) (r := 2) (by omega) (by omega)
  have zA : 1000000 ≤ pvA σ := by omega
  have zB : 1000000 ≤ pvB σ N := by omega
  have kdn : pvK σ ≠ -1 := by
    intro y
    unfold pvA at zA
    rw [if_pos y] at zA
    omega
  have g0 : pvG σ = true := by
    refine Classical.byContradiction fun y => ?_
    unfold pvB at zB
    rw [if_neg y] at zB
    omega
  have v0 : pvV σ N = true := by
    refine Classical.byContradiction fun y => ?_
    unfold pvB at zB
    rw [if_pos g0, if_neg y] at zB
    omega
  have gg := g0
  unfold pvG at gg
  simp only [Bool.and_eq_true, decide_eq_true_eq, Bool.or_eq_true] at gg
  exact ⟨kdn, gg.1, gg.2.resolve_left kdn, v0, a4, a5, a6 g0, b6 g0⟩
end

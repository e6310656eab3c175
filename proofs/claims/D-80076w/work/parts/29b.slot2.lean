/-! what stands in the brackets of a command: component -/
theorem getD_el (l : List Int) (j : Nat) (h : j < l.length) : l.getD j 0 = l[j]'h := by simp [List.getD, h]
section
variable {σ0 τ0 : ga_S} {f : Int} {N : Nat}
def slF : List Nat := fR_commandKind :: fR_isDirection :: bkL
theorem k_dir_l {d : Nat} (hd : 1 ≤ d) : ∀ (m i : Nat), i + m = 9 → ∀ (ρ : ga_S) (b : Bool), ρ fR_isDirection 0 0 = b2i b → ∃ ρ', r_isSlot_137 d ρ 9 i = some (1, ρ') ∧ fr [fR_isDirection] ρ ρ' ∧ ρ' fR_isDirection 0 0 = b2i (b && (List.range' i m).all (fun j => decide (ρ fD_spelled 0 j = dirW.getD j 0))) := by
  intro m
  induction m with
  | zero =>
    intro i hi ρ b hb
    have e : i = 9 := by omega
    subst e
    rw [e_r_isSlot_137, if_neg (by decide)]
    refine ⟨ρ, rfl, fr_refl _ _, ?_⟩
    rw [hb]; simp
  | succ m ih =>
    intro i hi ρ b hb
    have a := dir_at (i := i) (by omega)
    rw [e_r_isSlot_137, if_pos (by omega), hb]
    cases b with
    | false =>
      rw [if_pos b2i_f]
      refine ⟨ρ, rfl, fr_refl _ _, ?_⟩
      rw [hb, Bool.false_and]
    | true =>
      rw [if_neg b2i_n, ck_ok _ (by omega), s_p_chr hd _ _ _ (by rw [dir_len]; omega), a.2.2]
      simp only [Option.bind_some]
      have s178 : ∀ b : Bool, b = decide (ρ fD_spelled 0 i = dirW.getD i 0) → ∃ ρ', r_isSlot_178 d ρ 9 i (b2i b) = some (1, ρ') ∧ fr [fR_isDirection] ρ ρ' ∧ ρ' fR_isDirection 0 0 = b2i (true && (List.range' i (m + 1)).all (fun j => decide (ρ fD_spelled 0 j = dirW.getD j 0))) := by
        intro b eb
        obtain ⟨ρ1, e1⟩ : ∃ x, x = ga_up ρ fR_isDirection 0 0 (b2i b) := ⟨_, rfl⟩
        have f1 : fr [fR_isDirection] ρ ρ1 := by rw [e1]; exact fr_u (by decide)
        obtain ⟨ρ2, x1, x2, x3⟩ := ih (i + 1) (by omega) ρ1 b (by rw [e1, up_eq])
        rw [f1 fD_spelled (by decide)] at x3
        refine ⟨ρ2, ?_, fr_trans f1 x2, ?_⟩
        · rw [e_r_isSlot_178, z1_ok _ (b2i_01 _), ← e1, w32_ok (by omega)]
          push_cast at x1
          exact x1
        · rw [x3, eb, Bool.true_and, List.range'_succ, List.all_cons]
      by_cases z : ρ fD_spelled 0 i = dirW.getD i 0
      · rw [if_pos z]
        exact s178 true (decide_eq_true z).symm
      · rw [if_neg z]
        exact s178 false (decide_eq_false z).symm
theorem spl_dir {ρ : ga_S} {nm : List Int} (A : AT ρ nm) : (decide (ρ fD_size 0 0 = 9) && (List.range' 0 9).all (fun j => decide (ρ fD_spelled 0 j = dirW.getD j 0))) = decide (nm = dirW) := by
  obtain ⟨a1, a2, a3⟩ := A
  have len : ((spl ρ).length : Int) = ρ fD_size 0 0 := by
    unfold spl
    rw [List.length_map, rg_len, if_pos a2]
    omega
  have get : ∀ j : Nat, (j : Int) < ρ fD_size 0 0 → (spl ρ).getD j 0 = ρ fD_spelled 0 j := by
    intro j hj
    have := rg_getD (fun k => ρ fD_spelled 0 k) 0 j 0 (ρ fD_size 0 0) (by omega)
    rw [Int.zero_add] at this
    exact this
  by_cases z : nm = dirW
  · rw [decide_eq_true z]
    have e : spl ρ = dirW := by rw [a1, z]; rfl
    have l9 : ρ fD_size 0 0 = 9 := by rw [← len, e]; rfl
    rw [decide_eq_true l9, Bool.true_and]
    refine List.all_eq_true.mpr fun j hj => decide_eq_true ?_
    have jr := List.mem_range'_1.mp hj
    rw [← get j (by omega), e]
  · rw [decide_eq_false z]
    refine b_false fun v => z ?_
    simp only [Bool.and_eq_true, decide_eq_true_eq] at v
    obtain ⟨l9, al⟩ := v
    have e : spl ρ = dirW := by
      refine List.ext_getElem ?_ fun j h1 h2 => ?_
      · have : dirW.length = 9 := rfl
        omega
      · have j9 : j < 9 := h2
        have x := of_decide_eq_true (List.all_eq_true.mp al j (List.mem_range'_1.mpr ⟨Nat.zero_le _, by omega⟩))
        rw [← get j (by omega)] at x
        exact (getD_el (spl ρ) j h1).symm.trans (x.trans (getD_el dirW j h2))
    have lt : (nm.take 1000).length = 9 := by rw [← a1, e]; rfl
    rw [List.length_take] at lt
    rw [List.take_of_length_le (by omega)] at a1
    rw [← a1]; exact e
theorem k_isSlot {σ : ga_S} (E : E0 σ0 τ0 f N) (I : IN σ0) (K : KC σ0 σ) {a c : Int} {M : Nat} (ha : 0 ≤ a) (hac : a ≤ c) (hc : c ≤ σ0 fT_size 0 0) (hN : brN (σ0 fT_bytes 0) c a M) {d : Nat} (hd : 5 ≤ d) : ∃ σ', fr slF σ σ' ∧ KC σ0 σ' ∧ (okF (σ0 fT_bytes 0) c a M 0 ∧ 0 < M → c_r_isSlot d σ a c = some (1, σ') ∧ σ' fR_commandKind 0 0 = dN σ0 (nx (σ0 fT_bytes 0) c a 0 M) 0 ∧ σ' fR_isDirection 0 0 = b2i (decide (nx (σ0 fT_bytes 0) c a 0 M = dirW))) ∧ (¬ (okF (σ0 fT_bytes 0) c a M 0 ∧ 0 < M) → c_r_isSlot d σ a c = some (0, σ')) := by
  obtain ⟨d, rfl⟩ : ∃ e, d = e + 1 := ⟨d - 1, by omega⟩
  have sz := E.2.1.1.1
  have in0 : σ fR_inner 0 0 = 1 := by rw [K.1 _ (by decide)]; exact I.1
  have eB : σ fT_bytes 1 = σ0 fT_bytes 0 := by rw [K.1 _ (by decide)]; exact I.2.2.2.1
  have nn1 : ∀ {ρ : Type} (x : Option ρ), ga_nn 1 x = x := fun x => nn_ok _ (by decide)
  have aR : rAll σ 1 := by unfold rAll; rw [K.1 fT_all (by decide)]; exact I.2.1
  have iT : σ fT_inText 1 0 = 0 := by rw [K.1 fT_inText (by decide)]; exact I.2.2.1
  obtain ⟨σ1, M', x1, x2, x3, x4, x5, x6, x7, x8, x9⟩ := s_t_inside (σ := σ) (d := d) (by omega) (v := 1) (a := a) (n := c) (by decide) aR iT ha hac (by omega)
  rw [eB] at x6 x7 x8 x9
  have eM : M = M' := brN_u hN ⟨x6, x7⟩
  rw [← eM] at x4 x5 x6 x7 x8 x9
  clear eM M'
  have K1 : KC σ0 σ1 := KC_t K x2 x3
  have T1 : INT σ0 (σ0 fT_bytes 0) c a M σ1 := x8
  have in1 : σ1 fR_inner 0 0 = 1 := by rw [x2 _ (by decide)]; exact in0
  have p0 := (sP_r (B := σ0 fT_bytes 0) (x := true) (n := c) (a := a) ⟨ha, hac⟩ M).1
  have hM : (M : Int) ≤ 5000 := by omega
  obtain ⟨B, eB0⟩ : ∃ z, z = σ0 fT_bytes 0 := ⟨_, rfl⟩
  rw [← eB0] at x6 x7 x8 x9 hN p0 T1 ⊢
  have run0 := e_r_isSlot d σ a c
  rw [in0, nn1, x1] at run0
  simp only [Option.bind_some] at run0
  rw [in1, nn1, nn1, x9, x4] at run0
  have no : c_r_isSlot (d + 1) σ a c = some (0, σ1) → ¬ (okF B c a M 0 ∧ 0 < M) → ∃ σ', fr slF σ σ' ∧ KC σ0 σ' ∧ (okF B c a M 0 ∧ 0 < M → c_r_isSlot (d + 1) σ a c = some (1, σ') ∧ σ' fR_commandKind 0 0 = dN σ0 (nx B c a 0 M) 0 ∧ σ' fR_isDirection 0 0 = b2i (decide (nx B c a 0 M = dirW))) ∧ (¬ (okF B c a M 0 ∧ 0 < M) → c_r_isSlot (d + 1) σ a c = some (0, σ')) := fun h g => ⟨σ1, fr_sub x2 (by decide), K1, fun o => absurd o g, fun _ => h⟩
  by_cases w7 : sK B true c a M = 7
  · rw [if_pos w7, if_neg (by omega)] at run0
    exact no run0 (fun o => by have := o.1.1; omega)
  · have w8 : sK B true c a M = 8 := hN.1.resolve_left w7
    rw [if_neg w7, if_pos rfl, show ((M + 1 : Nat) : Int) - 1 = (M : Int) by push_cast; omega, w32_ok (by omega)] at run0
    by_cases m0 : M = 0
    · rw [if_pos (by omega)] at run0
      exact no run0 (fun o => by omega)
    · rw [if_neg (by omega)] at run0
      have kk : ∀ q : Int, 0 ≤ q → q ≤ M → σ1 fT_kinds 1 q = kx B c a q := fun q x y => INT_k T1 x y
      have lp : ∀ q, 0 ≤ q → q ≤ (M : Int) → r_isSlot_39 d σ1 M q = if frK (kx B c a) q M = true then r_isSlot_39 d σ1 M M else some (0, σ1) := by
        refine rg_ind (n := (M : Int)) (fun q hq h0 h1 => ?_) (fun q hq ih h0 h1 => ?_)
        · have e : q = M := by omega
          have e2 : frK (kx B c a) q M = true := by unfold frK; exact rg_all0 (by omega)
          rw [e2, if_pos rfl, e]
        · have e : frK (kx B c a) q M = (decide (kx B c a q = 0) && frK (kx B c a) (q + 1) M) := by unfold frK; rw [rg_all hq]
          have e1 := e_r_isSlot_39 d σ1 M q
          rw [if_pos hq, in1, nn1, nn1, ck_ok _ (by omega), kk q h0 (by omega)] at e1
          rw [e1]
          by_cases z : kx B c a q = 0
          · rw [if_pos z, w32_ok (by omega), ih (by omega) (by omega), e, decide_eq_true z, Bool.true_and]
          · rw [if_neg z, e, decide_eq_false z, Bool.false_and, if_neg (by decide)]
      rw [lp 0 (Int.le_refl _) (by omega)] at run0
      by_cases fk : frK (kx B c a) 0 M = true
      · rw [if_pos fk] at run0
        have ok : okF B c a M 0 ∧ 0 < M := by
          refine ⟨⟨w8, fun j _ hj => ?_⟩, by omega⟩
          unfold frK at fk
          have := of_decide_eq_true (rg_allI.mp fk j (by omega) (by omega))
          unfold kx at this
          rw [show ((j : Int)).toNat = j by omega] at this
          exact this
        obtain ⟨σ2, s1, s2, s3, _⟩ := s_d_spellS (σ := σ1) (d := d) (by omega) (s := 30) (by rw [dir_len]; decide) (by rw [dir_len]; decide)
        rw [dir_len] at s3
        have K2 := KC_f K1 s2 (by decide)
        have in2 : σ2 fR_inner 0 0 = 1 := by rw [s2 _ (by decide)]; exact in1
        have T2 : INT σ0 (σ0 fT_bytes 0) c a M σ2 := by rw [← eB0]; exact INT_f T1 s2 (by decide)
        obtain ⟨σ3, t1, t2, t3⟩ := k_spell1 E I K2 ha hac hc T2 hM (i := 0) (j := M) (Int.le_refl _) (by omega) (Int.le_refl _) (d := d) (by omega)
        rw [← eB0] at t3
        have K3 := KC_f K2 t2 (by decide)
        have of0 := k_of E K3 t3 (d := d) (by omega) 0
        obtain ⟨b, eb⟩ : ∃ b, b = decide (σ3 fD_size 0 0 = 9) := ⟨_, rfl⟩
        obtain ⟨σ4, e4⟩ : ∃ x, x = ga_up (ga_up σ3 fR_commandKind 0 0 (dN σ0 (nx B c a 0 M) 0)) fR_isDirection 0 0 (b2i b) := ⟨_, rfl⟩
        have f4 : fr [fR_commandKind, fR_isDirection] σ3 σ4 := by rw [e4]; exact fr_trans (fr_u (by decide)) (fr_u (by decide))
        obtain ⟨σ5, u1, u2, u3⟩ := k_dir_l (d := d) (by omega) 9 0 (by omega) σ4 b (by rw [e4, up_eq])
        have u1' : r_isSlot_137 d σ4 9 0 = some (1, σ5) := u1
        have fin : r_isSlot_39 d σ1 M M = some (1, σ5) := by
          rw [e_r_isSlot_39, if_neg (Int.lt_irrefl _), s1]
          simp only [Option.bind_some]
          rw [in2, t1]
          simp only [Option.bind_some]
          rw [of0]
          simp only [Option.bind_some]
          rw [s3]
          have s131 : r_isSlot_131 d (ga_up σ3 fR_commandKind 0 0 (dN σ0 (nx B c a 0 M) 0)) 9 (b2i b) = some (1, σ5) := by
            rw [e_r_isSlot_131, z1_ok _ (b2i_01 _), ← e4, u1']
          by_cases z : σ3 fD_size 0 0 = 9
          · rw [decide_eq_true z] at eb
            rw [eb] at s131
            rw [if_pos z]; exact s131
          · rw [decide_eq_false z] at eb
            rw [eb] at s131
            rw [if_neg z]; exact s131
        have f15 : fr slF σ σ5 := fr_trans (fr_sub x2 (by decide)) (fr_trans (fr_sub s2 (by decide)) (fr_trans (fr_sub t2 (by decide)) (fr_trans (fr_sub f4 (by decide)) (fr_sub u2 (by decide)))))
        refine ⟨σ5, f15, KC_f (KC_f K3 f4 (by decide)) u2 (by decide), fun _ => ⟨by rw [run0, fin], ?_, ?_⟩, fun o => absurd ok o⟩
        · rw [u2 _ (by decide), e4, up_F (by decide), up_eq]
        · rw [u3, f4 fD_spelled (by decide), eb, spl_dir t3]
      · rw [if_neg fk] at run0
        refine no run0 (fun o => fk ?_)
        unfold frK
        refine rg_allI.mpr fun q x y => decide_eq_true ?_
        unfold kx
        exact o.1.2 q.toNat (Nat.zero_le _) (by omega)
end

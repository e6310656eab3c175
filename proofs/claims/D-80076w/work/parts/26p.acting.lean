/-! actions, perhaps with an object -/
def acX (σ0 : ga_S) (a m : Int) : Int := dN σ0 (nmT σ0 a m) 8
def acY (σ0 : ga_S) (m b : Int) : Int := dN σ0 (nmT σ0 m b) 2
def acB (σ0 : ga_S) (rl : Bool) (a b m : Int) : Bool := decide (acX σ0 a m ≠ -1) && decide (0 ≤ σ0 fW_actionKinds 0 (acX σ0 a m)) && decide (acY σ0 m b ≠ -1) && (!rl || isB (σ0 fW_parents 0) (σ0 fW_kindOf 0 (acY σ0 m b)) (σ0 fW_actionKinds 0 (acX σ0 a m)))
def acW (σ0 : ga_S) (rl : Bool) (a b : Int) : Bool := decide (acX σ0 a b ≠ -1) && (rl || decide (σ0 fW_actionKinds 0 (acX σ0 a b) = -1))
def acL (σ0 : ga_S) (rl : Bool) (a b i : Int) : List Int := (rg i b).filter (acB σ0 rl a b)
def acN (σ0 : ga_S) (rl : Bool) (a b : Int) : Int := ((acL σ0 rl a b (a + 1)).length : Int) + b2i (acW σ0 rl a b)
theorem acL_n {σ0 : ga_S} {rl : Bool} {a b i : Int} (h : b ≤ i) : acL σ0 rl a b i = [] := by unfold acL; rw [rg_n h]; rfl
theorem acL_s {σ0 : ga_S} {rl : Bool} {a b i : Int} (h : i < b) : acL σ0 rl a b i = if acB σ0 rl a b i = true then i :: acL σ0 rl a b (i + 1) else acL σ0 rl a b (i + 1) := by
  unfold acL
  rw [rg_s h, List.filter_cons]
section
variable {σ0 τ0 : ga_S} {f : Int} {N : Nat}
theorem acX_r (E : E0 σ0 τ0 f N) (a m : Int) : acX σ0 a m = -1 ∨ (0 ≤ acX σ0 a m ∧ acX σ0 a m < σ0 fW_actions 0 0 ∧ acX σ0 a m < 12) := by
  have := e0_dN E (nmT σ0 a m) 8
  have m8 : mxN σ0 8 = σ0 fW_actions 0 0 := rfl
  have wc := (e0_c E).2.1
  unfold acX
  omega
theorem acY_r (E : E0 σ0 τ0 f N) (m b : Int) : acY σ0 m b = -1 ∨ (0 ≤ acY σ0 m b ∧ acY σ0 m b < σ0 fW_objects 0 0 ∧ acY σ0 m b < 24) := by
  have := e0_dN E (nmT σ0 m b) 2
  have m2 : mxN σ0 2 = σ0 fW_objects 0 0 := rfl
  have wo := (e0_o E).2.1
  unfold acY
  omega
def acF : List Nat := fR_actionFound :: fR_objectFound :: spL
theorem k_acting_l (E : E0 σ0 τ0 f N) (rl : Bool) {a b : Int} (hB : frB σ0 N a b) (hab : a < b) {d : Nat} (hd : 4 ≤ d) : ∀ i, a < i → i ≤ b → ∀ (σ : ga_S) (n : Int), KC σ0 σ → 0 ≤ n → n ≤ i → ∃ σ', r_acting_18 d σ a b (b2i rl) n i = some (n + (acL σ0 rl a b i).length + b2i (acW σ0 rl a b), σ') ∧ KC σ0 σ' ∧ fr acF σ σ' ∧ (acW σ0 rl a b = true → σ' fR_actionFound 0 0 = acX σ0 a b ∧ σ' fR_objectFound 0 0 = -1) ∧ (acW σ0 rl a b = false → (acL σ0 rl a b i = [] → fr spL σ σ') ∧ ∀ m, (acL σ0 rl a b i).getLast? = some m → σ' fR_actionFound 0 0 = acX σ0 a m ∧ σ' fR_objectFound 0 0 = acY σ0 m b) := by
  have hN := E.1.2.2.1
  have hb := hB.2.2.1
  have ha := hB.1
  have wc := e0_c E
  refine rg_ind (n := b) (fun i hi hai hib σ n K n0 ni => ?_) (fun i hi ih hai hib σ n K n0 ni => ?_)
  · have ei : i = b := by omega
    subst ei
    obtain ⟨σ1, x1, x2, _, x4⟩ := k_mean E K hB (d := d) (by omega) 8
    have ex : dN σ0 (nmT σ0 a i) 8 = acX σ0 a i := rfl
    rw [ex] at x1
    have xr := acX_r E a i
    have en : ∀ σ2 k, r_acting_158 d σ2 a i (b2i rl) k i = some (k, σ2) := by
      intro σ2 k
      rw [e_r_acting_158, w32_ok (by omega), e_r_acting_18, if_pos (by omega)]
    have e0 : r_acting_18 d σ a i (b2i rl) n i = if acX σ0 a i = -1 then r_acting_158 d σ1 a i (b2i rl) n i else if b2i rl = 0 then ga_ck (acX σ0 a i) 12 (if (σ1 fW_actionKinds 0 (acX σ0 a i)) = (-1) then r_acting_65 d σ1 a i (b2i rl) n i (acX σ0 a i) else r_acting_158 d σ1 a i (b2i rl) n i) else r_acting_65 d σ1 a i (b2i rl) n i (acX σ0 a i) := by
      rw [e_r_acting_18, if_neg (by omega), x1]
      simp only [Option.bind_some]
      rw [if_pos trivial]
    rw [e0, acL_n (Int.le_refl _)]
    have no : acW σ0 rl a i = false → ∃ σ', some (n, σ1) = some (n + (([] : List Int).length : Int) + b2i (acW σ0 rl a i), σ') ∧ KC σ0 σ' ∧ fr acF σ σ' ∧ (acW σ0 rl a i = true → σ' fR_actionFound 0 0 = acX σ0 a i ∧ σ' fR_objectFound 0 0 = -1) ∧ (acW σ0 rl a i = false → (([] : List Int) = [] → fr spL σ σ') ∧ ∀ m, ([] : List Int).getLast? = some m → σ' fR_actionFound 0 0 = acX σ0 a m ∧ σ' fR_objectFound 0 0 = acY σ0 m i) := by
      intro w
      exact ⟨σ1, by rw [w, b2i_f]; simp, x4, fr_sub x2 (by decide), fun z => (by rw [w] at z; cases z), fun _ => ⟨fun _ => x2, fun m z => by simp at z⟩⟩
    have ye : acW σ0 rl a i = true → ∃ σ', r_acting_65 d σ1 a i (b2i rl) n i (acX σ0 a i) = some (n + (([] : List Int).length : Int) + b2i (acW σ0 rl a i), σ') ∧ KC σ0 σ' ∧ fr acF σ σ' ∧ (acW σ0 rl a i = true → σ' fR_actionFound 0 0 = acX σ0 a i ∧ σ' fR_objectFound 0 0 = -1) ∧ (acW σ0 rl a i = false → (([] : List Int) = [] → fr spL σ σ') ∧ ∀ m, ([] : List Int).getLast? = some m → σ' fR_actionFound 0 0 = acX σ0 a m ∧ σ' fR_objectFound 0 0 = acY σ0 m i) := by
      intro w
      obtain ⟨σ2, e2⟩ : ∃ x, x = ga_up (ga_up σ1 fR_actionFound 0 0 (acX σ0 a i)) fR_objectFound 0 0 (-1) := ⟨_, rfl⟩
      have f2 : fr [fR_actionFound, fR_objectFound] σ1 σ2 := by rw [e2]; exact fr_trans (fr_u (by decide)) (fr_u (by decide))
      have b1 : b2i true = 1 := rfl
      exact ⟨σ2, by rw [e_r_acting_65, ← e2, en, w32_ok (by omega), w, b1]; simp, KC_f x4 f2 (by decide), fr_trans (fr_sub x2 (by decide)) (fr_sub f2 (by decide)), fun _ => ⟨by rw [e2, up_F (by decide), up_eq], by rw [e2, up_eq]⟩, fun z => by rw [w] at z; cases z⟩
    by_cases c1 : acX σ0 a i = -1
    · rw [if_pos c1, en]
      exact no (by unfold acW; rw [decide_eq_false (fun z => z c1), Bool.false_and])
    · rw [if_neg c1]
      cases rl with
      | true => rw [if_neg b2i_n]; exact ye (by unfold acW; rw [decide_eq_true c1]; rfl)
      | false =>
        rw [if_pos b2i_f, ck_ok _ (by omega), x4.1 fW_actionKinds (by decide)]
        by_cases c2 : σ0 fW_actionKinds 0 (acX σ0 a i) = -1
        · rw [if_pos c2]; exact ye (by unfold acW; rw [decide_eq_true c1, decide_eq_true c2]; rfl)
        · rw [if_neg c2, en]; exact no (by unfold acW; rw [decide_eq_false c2]; simp)
  · have fB1 := frB_s hB (Int.le_refl a) (Int.le_of_lt hai) hib
    have fB2 := frB_s hB (Int.le_of_lt hai) hib (Int.le_refl b)
    obtain ⟨σ1, x1, x2, _, x4⟩ := k_mean E K fB1 (d := d) (by omega) 8
    have ex : dN σ0 (nmT σ0 a i) 8 = acX σ0 a i := rfl
    rw [ex] at x1
    have xr := acX_r E a i
    have yr := acY_r E i b
    have no : ∀ σ2, fr spL σ σ2 → KC σ0 σ2 → r_acting_18 d σ a b (b2i rl) n i = r_acting_158 d σ2 a b (b2i rl) n i → acB σ0 rl a b i = false → ∃ σ', r_acting_18 d σ a b (b2i rl) n i = some (n + (acL σ0 rl a b i).length + b2i (acW σ0 rl a b), σ') ∧ KC σ0 σ' ∧ fr acF σ σ' ∧ (acW σ0 rl a b = true → σ' fR_actionFound 0 0 = acX σ0 a b ∧ σ' fR_objectFound 0 0 = -1) ∧ (acW σ0 rl a b = false → (acL σ0 rl a b i = [] → fr spL σ σ') ∧ ∀ m, (acL σ0 rl a b i).getLast? = some m → σ' fR_actionFound 0 0 = acX σ0 a m ∧ σ' fR_objectFound 0 0 = acY σ0 m b) := by
      intro σ2 f2 K2 e2 hb
      obtain ⟨σ', g1, g2, g3, g4, g5⟩ := ih (by omega) (by omega) σ2 n K2 n0 (by omega)
      have sL : acL σ0 rl a b i = acL σ0 rl a b (i + 1) := by rw [acL_s hi, hb, if_neg (by decide)]
      rw [e2, e_r_acting_158, w32_ok (by omega), g1, sL]
      exact ⟨σ', rfl, g2, fr_trans (fr_sub f2 (by decide)) g3, g4, fun w => ⟨fun z => fr_trans f2 ((g5 w).1 z), (g5 w).2⟩⟩
    have e0 : r_acting_18 d σ a b (b2i rl) n i = if acX σ0 a i = -1 then r_acting_158 d σ1 a b (b2i rl) n i else ga_ck (acX σ0 a i) 12 (if (σ1 fW_actionKinds 0 (acX σ0 a i)) < 0 then r_acting_158 d σ1 a b (b2i rl) n i else (c_r_mean d σ1 i b 2).bind fun q2 => if q2.1 = (-1) then r_acting_158 d q2.2 a b (b2i rl) n i else if b2i rl = 0 then r_acting_143 d q2.2 a b (b2i rl) n i (acX σ0 a i) q2.1 else ga_ck (acX σ0 a i) 12 ((c_w_isKind d q2.2 q2.1 (q2.2 fW_actionKinds 0 (acX σ0 a i))).bind fun q3 => if q3.1 = 0 then r_acting_158 d q3.2 a b (b2i rl) n i else r_acting_143 d q3.2 a b (b2i rl) n i (acX σ0 a i) q2.1)) := by
      rw [e_r_acting_18, if_neg (by omega), x1]
      simp only [Option.bind_some]
      rw [if_neg (by omega)]
    by_cases c1 : acX σ0 a i = -1
    · rw [if_pos c1] at e0
      exact no σ1 x2 x4 e0 (by unfold acB; rw [decide_eq_false (p := acX σ0 a i ≠ -1) (fun z => z c1)]; simp)
    · have ar := wc.2.2.2 (acX σ0 a i) (by omega) (by omega)
      rw [if_neg c1, ck_ok _ (by omega), x4.1 fW_actionKinds (by decide)] at e0
      by_cases c2 : σ0 fW_actionKinds 0 (acX σ0 a i) < 0
      · rw [if_pos c2] at e0
        exact no σ1 x2 x4 e0 (by unfold acB; rw [decide_eq_false (p := 0 ≤ σ0 fW_actionKinds 0 (acX σ0 a i)) (by omega)]; simp)
      · obtain ⟨σ2, y1, y2, _, y4⟩ := k_mean E x4 fB2 (d := d) (by omega) 2
        have ey : dN σ0 (nmT σ0 i b) 2 = acY σ0 i b := rfl
        rw [ey] at y1
        have f2 : fr spL σ σ2 := fr_trans x2 y2
        rw [if_neg c2, y1] at e0
        simp only [Option.bind_some] at e0
        by_cases c3 : acY σ0 i b = -1
        · rw [if_pos c3] at e0
          exact no σ2 f2 y4 e0 (by unfold acB; rw [decide_eq_false (p := acY σ0 i b ≠ -1) (fun z => z c3)]; simp)
        · rw [if_neg c3] at e0
          have eB : acB σ0 rl a b i = (!rl || isB (σ0 fW_parents 0) (σ0 fW_kindOf 0 (acY σ0 i b)) (σ0 fW_actionKinds 0 (acX σ0 a i))) := by
            unfold acB
            rw [decide_eq_true (p := acX σ0 a i ≠ -1) c1, decide_eq_true (p := 0 ≤ σ0 fW_actionKinds 0 (acX σ0 a i)) (by omega), decide_eq_true (p := acY σ0 i b ≠ -1) c3]
            simp only [Bool.true_and]
          have ye : r_acting_18 d σ a b (b2i rl) n i = r_acting_143 d σ2 a b (b2i rl) n i (acX σ0 a i) (acY σ0 i b) → acB σ0 rl a b i = true → ∃ σ', r_acting_18 d σ a b (b2i rl) n i = some (n + (acL σ0 rl a b i).length + b2i (acW σ0 rl a b), σ') ∧ KC σ0 σ' ∧ fr acF σ σ' ∧ (acW σ0 rl a b = true → σ' fR_actionFound 0 0 = acX σ0 a b ∧ σ' fR_objectFound 0 0 = -1) ∧ (acW σ0 rl a b = false → (acL σ0 rl a b i = [] → fr spL σ σ') ∧ ∀ m, (acL σ0 rl a b i).getLast? = some m → σ' fR_actionFound 0 0 = acX σ0 a m ∧ σ' fR_objectFound 0 0 = acY σ0 m b) := by
            intro e3 hb
            obtain ⟨σ3, e4⟩ : ∃ x, x = ga_up (ga_up σ2 fR_actionFound 0 0 (acX σ0 a i)) fR_objectFound 0 0 (acY σ0 i b) := ⟨_, rfl⟩
            have f3 : fr [fR_actionFound, fR_objectFound] σ2 σ3 := by rw [e4]; exact fr_trans (fr_u (by decide)) (fr_u (by decide))
            obtain ⟨σ', g1, g2, g3, g4, g5⟩ := ih (by omega) (by omega) σ3 (n + 1) (KC_f y4 f3 (by decide)) (by omega) (by omega)
            have sL : acL σ0 rl a b i = i :: acL σ0 rl a b (i + 1) := by rw [acL_s hi, hb, if_pos rfl]
            have ln : n + ((acL σ0 rl a b i).length : Int) = n + 1 + ((acL σ0 rl a b (i + 1)).length : Int) := by
              rw [sL, List.length_cons]; push_cast; omega
            rw [e3, e_r_acting_143, ← e4, e_r_acting_158, w32_ok (by omega), w32_ok (by omega), g1, ln]
            refine ⟨σ', rfl, g2, fr_trans (fr_sub f2 (by decide)) (fr_trans (fr_sub f3 (by decide)) g3), g4, fun w => ⟨fun z => ?_, fun m z => ?_⟩⟩
            · rw [sL] at z; cases z
            · rw [sL] at z
              cases hl : acL σ0 rl a b (i + 1) with
              | nil =>
                rw [hl] at z
                have zi : i = m := by simpa using z
                have k := (g5 w).1 hl
                rw [← zi, k _ (by decide), k _ (by decide), e4, up_F (by decide), up_eq, up_eq]
                exact ⟨rfl, rfl⟩
              | cons y r =>
                rw [hl, List.getLast?_cons_cons] at z
                exact (g5 w).2 m (by rw [hl]; exact z)
          cases rl with
          | false =>
            rw [if_pos b2i_f] at e0
            exact ye e0 (by rw [eB]; rfl)
          | true =>
            rw [if_neg b2i_n, ck_ok _ (by omega), y4.1 fW_actionKinds (by decide), k_isKind E y4 (by omega) _ (by omega)] at e0
            simp only [Option.bind_some] at e0
            cases q : isB (σ0 fW_parents 0) (σ0 fW_kindOf 0 (acY σ0 i b)) (σ0 fW_actionKinds 0 (acX σ0 a i)) with
            | false =>
              rw [q, if_pos b2i_f] at e0
              exact no σ2 f2 y4 e0 (by rw [eB, q]; rfl)
            | true =>
              rw [q, if_neg b2i_n] at e0
              exact ye e0 (by rw [eB, q]; rfl)
/-- where there is one reading: what it is -/
def ac1 (σ0 : ga_S) (rl : Bool) (a b x y : Int) : Prop := (acW σ0 rl a b = true ∧ x = acX σ0 a b ∧ y = -1) ∨ (acW σ0 rl a b = false ∧ ∃ m, acL σ0 rl a b (a + 1) = [m] ∧ x = acX σ0 a m ∧ y = acY σ0 m b)
theorem k_acting {σ : ga_S} (E : E0 σ0 τ0 f N) (K : KC σ0 σ) (rl : Bool) {a b : Int} (hB : frB σ0 N a b) (hab : a < b) {d : Nat} (hd : 5 ≤ d) : ∃ σ', c_r_acting d σ a b (b2i rl) = some (acN σ0 rl a b, σ') ∧ KC σ0 σ' ∧ fr acF σ σ' ∧ (acN σ0 rl a b = 1 → ac1 σ0 rl a b (σ' fR_actionFound 0 0) (σ' fR_objectFound 0 0)) := by
  obtain ⟨d, rfl⟩ : ∃ e, d = e + 1 := ⟨d - 1, by omega⟩
  have hb := hB.2.2.1
  have hN := E.1.2.2.1
  have ha := hB.1
  obtain ⟨σ1, e1⟩ : ∃ x, x = ga_up (ga_up σ fR_objectFound 0 0 (-1)) fR_actionFound 0 0 (-1) := ⟨_, rfl⟩
  have f1 : fr [fR_actionFound, fR_objectFound] σ σ1 := by rw [e1]; exact fr_trans (fr_u (by decide)) (fr_u (by decide))
  obtain ⟨σ', g1, g2, g3, g4, g5⟩ := k_acting_l E rl hB hab (d := d) (by omega) (a + 1) (by omega) (by omega) σ1 0 (KC_f K f1 (by decide)) (Int.le_refl _) (by omega)
  rw [Int.zero_add] at g1
  rw [e_r_acting, ← e1, w32_ok (by omega), g1]
  refine ⟨σ', rfl, g2, fr_trans (fr_sub f1 (by decide)) g3, fun z => ?_⟩
  unfold acN at z
  cases w : acW σ0 rl a b with
  | true => exact Or.inl ⟨w, g4 w⟩
  | false =>
    rw [w, b2i_f] at z
    obtain ⟨m, hm⟩ := List.length_eq_one_iff.mp (show (acL σ0 rl a b (a + 1)).length = 1 by omega)
    exact Or.inr ⟨w, m, hm, (g5 w).2 m (by rw [hm]; rfl)⟩
end

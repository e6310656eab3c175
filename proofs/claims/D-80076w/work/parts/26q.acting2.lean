/-! actions in the model -/
section
variable {σ0 τ0 : ga_S} {f : Int} {N : Nat}
theorem dN_3 (E : E0 σ0 τ0 f N) {a b : Int} (h : frB σ0 N a b) (h3 : 3 < b - a) (s : Int) : dN σ0 (nmT σ0 a b) s = -1 := by
  have l := wsT_len (σ := σ0) h.2.1
  have z := RD_none E.2.2.1 (wsT_W E.2.1 h) (Or.inr (by omega))
  unfold dN nmT
  rw [if_pos (Or.inl z)]
theorem acL_3 (E : E0 σ0 τ0 f N) (rl : Bool) {a b : Int} (hB : frB σ0 N a b) : ∀ i, a + 3 < i → acL σ0 rl a b i = [] := by
  refine rg_ind (n := b) (fun i hi _ => acL_n hi) (fun i hi ih h => ?_)
  have : acX σ0 a i = -1 := dN_3 E (frB_s hB (Int.le_refl a) (by omega) (by omega)) (by omega) 8
  have hb : acB σ0 rl a b i = false := by unfold acB; rw [decide_eq_false (p := acX σ0 a i ≠ -1) (fun z => z this)]; simp
  rw [acL_s hi, hb, if_neg (by decide), ih (by omega)]
def acM : List Nat := [fM_tried, fM_triedObject]
theorem m_actings_l (E : E0 σ0 τ0 f N) (rl : Bool) {a b : Int} (hB : frB σ0 N a b) {d : Nat} (hd : 3 ≤ d) : ∀ i, a < i → ∀ (τ : ga_S) (n : Int), KM τ0 τ → 0 ≤ n → n ≤ i - a → i ≤ b → ∃ τ', m_actings_67 d τ (b2i (!rl)) (f + a) (b - a) n (i - a) = some (n + (acL σ0 rl a b i).length, τ') ∧ KM τ0 τ' ∧ fr acM τ τ' ∧ (0 < n ∨ acL σ0 rl a b i = [] → τ' fM_tried 0 0 = τ fM_tried 0 0 ∧ τ' fM_triedObject 0 0 = τ fM_triedObject 0 0) ∧ (n = 0 → ∀ m, (acL σ0 rl a b i).head? = some m → τ' fM_tried 0 0 = acX σ0 a m ∧ τ' fM_triedObject 0 0 = acY σ0 m b) := by
  have hf := E.1.1
  have hN := E.1.2.1
  have hb := hB.2.2.1
  have ha := hB.1
  have wc := e0_c E
  have wk := e0_k E
  refine rg_ind (n := b) (fun i hi hai τ n K n0 ni hib => ?_) (fun i hi ih hai τ n K n0 ni hib => ?_)
  · rw [e_m_actings_67, if_neg (by omega), acL_n hi]
    simp only [List.length_nil, Int.natCast_zero, Int.add_zero]
    exact ⟨τ, rfl, K, fr_refl _ _, fun _ => ⟨rfl, rfl⟩, fun _ m z => by simp at z⟩
  · by_cases c3 : 3 < i - a
    · rw [e_m_actings_67, if_pos (by omega), if_pos c3, acL_3 E rl hB i (by omega)]
      simp only [List.length_nil, Int.natCast_zero, Int.add_zero]
      exact ⟨τ, rfl, K, fr_refl _ _, fun _ => ⟨rfl, rfl⟩, fun _ m z => by simp at z⟩
    · have fB1 := frB_s hB (Int.le_refl a) (Int.le_of_lt hai) hib
      have fB2 := frB_s hB (Int.le_of_lt hai) hib (Int.le_refl b)
      have ex : dN σ0 (nmT σ0 a i) 8 = acX σ0 a i := rfl
      have ey : dN σ0 (nmT σ0 i b) 2 = acY σ0 i b := rfl
      have xr := acX_r E a i
      have yr := acY_r E i b
      have e0 : m_actings_67 d τ (b2i (!rl)) (f + a) (b - a) n (i - a) = if acX σ0 a i = -1 then m_actings_193 d τ (b2i (!rl)) (f + a) (b - a) n (i - a) else if acY σ0 i b = -1 then m_actings_193 d τ (b2i (!rl)) (f + a) (b - a) n (i - a) else ga_ck (acX σ0 a i) 12 (if (τ fM_actionKind 0 (acX σ0 a i)) < 0 then m_actings_193 d τ (b2i (!rl)) (f + a) (b - a) n (i - a) else if b2i (!rl) = 0 then ga_ck (acY σ0 i b) 24 (ga_ck (acX σ0 a i) 12 ((c_m_isBelow d τ (τ fM_kindOf 0 (acY σ0 i b)) (τ fM_actionKind 0 (acX σ0 a i))).bind fun q4 => if q4.1 = 0 then m_actings_193 d q4.2 (b2i (!rl)) (f + a) (b - a) n (i - a) else m_actings_154 d q4.2 (b2i (!rl)) (f + a) (b - a) n (acX σ0 a i) (i - a) (acY σ0 i b))) else m_actings_154 d τ (b2i (!rl)) (f + a) (b - a) n (acX σ0 a i) (i - a) (acY σ0 i b)) := by
        rw [e_m_actings_67, if_pos (by omega), if_neg c3, m_means E K fB1 rfl rfl (by omega), mN_dN (s := 8) (by omega), ex]
        simp only [Option.bind_some]
        rw [w32_ok (x := f + a + (i - a)) (by omega), w32_ok (x := b - a - (i - a)) (by omega), m_means E K fB2 (t := f + a + (i - a)) (by omega) (n := b - a - (i - a)) (by omega) (by omega), mN_dN (s := 2) (by omega), ey]
        simp only [Option.bind_some]
      have no : m_actings_67 d τ (b2i (!rl)) (f + a) (b - a) n (i - a) = m_actings_193 d τ (b2i (!rl)) (f + a) (b - a) n (i - a) → acB σ0 rl a b i = false → ∃ τ', m_actings_67 d τ (b2i (!rl)) (f + a) (b - a) n (i - a) = some (n + (acL σ0 rl a b i).length, τ') ∧ KM τ0 τ' ∧ fr acM τ τ' ∧ (0 < n ∨ acL σ0 rl a b i = [] → τ' fM_tried 0 0 = τ fM_tried 0 0 ∧ τ' fM_triedObject 0 0 = τ fM_triedObject 0 0) ∧ (n = 0 → ∀ m, (acL σ0 rl a b i).head? = some m → τ' fM_tried 0 0 = acX σ0 a m ∧ τ' fM_triedObject 0 0 = acY σ0 m b) := by
        intro e1 hb
        obtain ⟨τ', g1, g2, g3, g4, g5⟩ := ih (by omega) τ n K n0 (by omega) (by omega)
        have sL : acL σ0 rl a b i = acL σ0 rl a b (i + 1) := by rw [acL_s hi, hb, if_neg (by decide)]
        rw [e1, e_m_actings_193, w32_ok (by omega), show i - a + 1 = i + 1 - a by omega, g1, sL]
        exact ⟨τ', rfl, g2, g3, g4, g5⟩
      by_cases c1 : acX σ0 a i = -1
      · rw [if_pos c1] at e0
        exact no e0 (by unfold acB; rw [decide_eq_false (p := acX σ0 a i ≠ -1) (fun z => z c1)]; simp)
      · rw [if_neg c1] at e0
        by_cases c2 : acY σ0 i b = -1
        · rw [if_pos c2] at e0
          exact no e0 (by unfold acB; rw [decide_eq_false (p := acY σ0 i b ≠ -1) (fun z => z c2)]; simp)
        · have ar := wc.2.2.2 (acX σ0 a i) (by omega) (by omega)
          rw [if_neg c2, ck_ok _ (by omega), K fM_actionKind (by decide), ar.2.2] at e0
          by_cases c4 : σ0 fW_actionKinds 0 (acX σ0 a i) < 0
          · rw [if_pos c4] at e0
            exact no e0 (by unfold acB; rw [decide_eq_false (p := 0 ≤ σ0 fW_actionKinds 0 (acX σ0 a i)) (by omega)]; simp)
          · rw [if_neg c4] at e0
            have eB : acB σ0 rl a b i = (!rl || isB (σ0 fW_parents 0) (σ0 fW_kindOf 0 (acY σ0 i b)) (σ0 fW_actionKinds 0 (acX σ0 a i))) := by
              unfold acB
              rw [decide_eq_true (p := acX σ0 a i ≠ -1) c1, decide_eq_true (p := 0 ≤ σ0 fW_actionKinds 0 (acX σ0 a i)) (by omega), decide_eq_true (p := acY σ0 i b ≠ -1) c2]
              simp only [Bool.true_and]
            have ye : m_actings_67 d τ (b2i (!rl)) (f + a) (b - a) n (i - a) = m_actings_154 d τ (b2i (!rl)) (f + a) (b - a) n (acX σ0 a i) (i - a) (acY σ0 i b) → acB σ0 rl a b i = true → ∃ τ', m_actings_67 d τ (b2i (!rl)) (f + a) (b - a) n (i - a) = some (n + (acL σ0 rl a b i).length, τ') ∧ KM τ0 τ' ∧ fr acM τ τ' ∧ (0 < n ∨ acL σ0 rl a b i = [] → τ' fM_tried 0 0 = τ fM_tried 0 0 ∧ τ' fM_triedObject 0 0 = τ fM_triedObject 0 0) ∧ (n = 0 → ∀ m, (acL σ0 rl a b i).head? = some m → τ' fM_tried 0 0 = acX σ0 a m ∧ τ' fM_triedObject 0 0 = acY σ0 m b) := by
              intro e1 hb
              obtain ⟨x, ex⟩ : ∃ x : Int, x = if n = 0 then acX σ0 a i else τ fM_tried 0 0 := ⟨_, rfl⟩
              obtain ⟨y, ey⟩ : ∃ x : Int, x = if n = 0 then acY σ0 i b else τ fM_triedObject 0 0 := ⟨_, rfl⟩
              obtain ⟨τ1, e2⟩ : ∃ z, z = ga_up (ga_up τ fM_tried 0 0 x) fM_triedObject 0 0 y := ⟨_, rfl⟩
              have f1 : fr acM τ τ1 := by rw [e2]; exact fr_trans (fr_u (by decide)) (fr_u (by decide))
              have step : m_actings_154 d τ (b2i (!rl)) (f + a) (b - a) n (acX σ0 a i) (i - a) (acY σ0 i b) = m_actings_193 d τ1 (b2i (!rl)) (f + a) (b - a) (n + 1) (i - a) := by
                rw [e_m_actings_154, e2]
                by_cases z : n = 0
                · rw [if_pos z] at ex ey
                  rw [if_pos z, e_m_actings_169, if_pos z, e_m_actings_187, w32_ok (by omega), ex, ey]
                · rw [if_neg z] at ex ey
                  rw [if_neg z, e_m_actings_169, if_neg z, e_m_actings_187, w32_ok (by omega), ex, ey]
              obtain ⟨τ', g1, g2, g3, g4, g5⟩ := ih (by omega) τ1 (n + 1) (KM_f K f1 (by decide)) (by omega) (by omega) (by omega)
              have sL : acL σ0 rl a b i = i :: acL σ0 rl a b (i + 1) := by rw [acL_s hi, hb, if_pos rfl]
              have ln : n + ((acL σ0 rl a b i).length : Int) = n + 1 + ((acL σ0 rl a b (i + 1)).length : Int) := by
                rw [sL, List.length_cons]; push_cast; omega
              have k := g4 (Or.inl (by omega))
              have t1 : τ1 fM_tried 0 0 = x ∧ τ1 fM_triedObject 0 0 = y := by rw [e2]; exact ⟨by rw [up_F (by decide), up_eq], by rw [up_eq]⟩
              rw [e1, step, e_m_actings_193, w32_ok (by omega), show i - a + 1 = i + 1 - a by omega, g1, ln]
              refine ⟨τ', rfl, g2, fr_trans f1 g3, fun z => ?_, fun z m hm => ?_⟩
              · rcases z with z | z
                · rw [if_neg (by omega)] at ex ey
                  rw [k.1, k.2, t1.1, t1.2]
                  exact ⟨ex, ey⟩
                · rw [sL] at z; cases z
              · rw [sL] at hm
                have zi : i = m := by simpa using hm
                rw [if_pos z] at ex ey
                rw [k.1, k.2, t1.1, t1.2, ← zi]
                exact ⟨ex, ey⟩
            cases rl with
            | false =>
              rw [if_neg (by decide)] at e0
              exact ye e0 (by rw [eB]; rfl)
            | true =>
              rw [if_pos (by decide), ck_ok _ (by omega), ck_ok _ (by omega), m_isKind E K (by omega) _ (by omega)] at e0
              simp only [Option.bind_some] at e0
              cases q : isB (σ0 fW_parents 0) (σ0 fW_kindOf 0 (acY σ0 i b)) (σ0 fW_actionKinds 0 (acX σ0 a i)) with
              | false =>
                rw [q, if_pos b2i_f] at e0
                exact no e0 (by rw [eB, q]; rfl)
              | true =>
                rw [q, if_neg b2i_n] at e0
                exact ye e0 (by rw [eB, q]; rfl)
theorem m_actings {τ : ga_S} (E : E0 σ0 τ0 f N) (K : KM τ0 τ) (rl : Bool) {a b r : Int} (R : RU σ0 τ0 f N r a b) (hab : a < b) {d : Nat} (hd : 4 ≤ d) : ∃ τ', c_m_actings d τ r (b2i (!rl)) = some (acN σ0 rl a b, τ') ∧ KM τ0 τ' ∧ fr acM τ τ' ∧ (acN σ0 rl a b = 1 → ac1 σ0 rl a b (τ' fM_tried 0 0) (τ' fM_triedObject 0 0)) ∧ (0 < acN σ0 rl a b → (0 ≤ τ' fM_tried 0 0 ∧ τ' fM_tried 0 0 < σ0 fW_actions 0 0) ∧ (τ' fM_triedObject 0 0 = -1 ∨ (0 ≤ τ' fM_triedObject 0 0 ∧ τ' fM_triedObject 0 0 < σ0 fW_objects 0 0))) := by
  obtain ⟨d, rfl⟩ : ∃ e, d = e + 1 := ⟨d - 1, by omega⟩
  have hB := R.2.2.2
  have hf := E.1.1
  have hN := E.1.2.1
  have hb := hB.2.2.1
  have ha := hB.1
  have xr := acX_r E a b
  have ex : dN σ0 (nmT σ0 a b) 8 = acX σ0 a b := rfl
  have wc := e0_c E
  -- the whole
  obtain ⟨τ1, x1, x2, x3⟩ : ∃ τ1, c_m_actings (d + 1) τ r (b2i (!rl)) = m_actings_67 d τ1 (b2i (!rl)) (f + a) (b - a) (b2i (acW σ0 rl a b)) 1 ∧ fr acM τ τ1 ∧ (acW σ0 rl a b = true → τ1 fM_tried 0 0 = acX σ0 a b ∧ τ1 fM_triedObject 0 0 = -1) := by
    rw [e_m_actings, ck_ok _ R.1, ck_ok _ R.1, K fM_runFrom (by decide), K fM_runSize (by decide), m_means E K hB R.2.1 R.2.2.1 (by omega), mN_dN (s := 8) (by omega), ex, R.2.1, R.2.2.1]
    simp only [Option.bind_some]
    have f1 : fr acM τ (ga_up (ga_up τ fM_tried 0 0 (acX σ0 a b)) fM_triedObject 0 0 (-1)) := fr_trans (fr_u (by decide)) (fr_u (by decide))
    have no : acW σ0 rl a b = false → ∃ τ1, m_actings_64 d τ (b2i (!rl)) (f + a) (b - a) 0 = m_actings_67 d τ1 (b2i (!rl)) (f + a) (b - a) (b2i (acW σ0 rl a b)) 1 ∧ fr acM τ τ1 ∧ (acW σ0 rl a b = true → τ1 fM_tried 0 0 = acX σ0 a b ∧ τ1 fM_triedObject 0 0 = -1) := by
      intro w
      rw [w, e_m_actings_64]
      exact ⟨τ, rfl, fr_refl _ _, fun z => by cases z⟩
    have ye : acW σ0 rl a b = true → ∃ τ1, m_actings_50 d τ (b2i (!rl)) (f + a) (b - a) 0 (acX σ0 a b) = m_actings_67 d τ1 (b2i (!rl)) (f + a) (b - a) (b2i (acW σ0 rl a b)) 1 ∧ fr acM τ τ1 ∧ (acW σ0 rl a b = true → τ1 fM_tried 0 0 = acX σ0 a b ∧ τ1 fM_triedObject 0 0 = -1) := by
      intro w
      rw [w, e_m_actings_50, e_m_actings_64, w32_ok (by omega)]
      exact ⟨_, rfl, f1, fun _ => ⟨by rw [up_F (by decide), up_eq], by rw [up_eq]⟩⟩
    by_cases c1 : acX σ0 a b = -1
    · rw [if_pos c1]
      exact no (by unfold acW; rw [decide_eq_false (fun z => z c1), Bool.false_and])
    · have ar := wc.2.2.2 (acX σ0 a b) (by omega) (by omega)
      rw [if_neg c1]
      cases rl with
      | true => rw [if_pos (by decide)]; exact ye (by unfold acW; rw [decide_eq_true c1]; rfl)
      | false =>
        rw [if_neg (by decide), ck_ok _ (by omega), K fM_actionKind (by decide), ar.2.2]
        by_cases c2 : σ0 fW_actionKinds 0 (acX σ0 a b) = -1
        · rw [if_pos c2]; exact ye (by unfold acW; rw [decide_eq_true c1, decide_eq_true c2]; rfl)
        · rw [if_neg c2]; exact no (by unfold acW; rw [decide_eq_false c2]; simp)
  have wb : 0 ≤ b2i (acW σ0 rl a b) ∧ b2i (acW σ0 rl a b) ≤ 1 := by cases acW σ0 rl a b <;> decide
  obtain ⟨τ', g1, g2, g3, g4, g5⟩ := m_actings_l E rl hB (d := d) (by omega) (a + 1) (by omega) τ1 (b2i (acW σ0 rl a b)) (KM_f K x2 (by decide)) wb.1 (by omega) (by omega)
  rw [show a + 1 - a = 1 by omega] at g1
  have eN : acN σ0 rl a b = b2i (acW σ0 rl a b) + ((acL σ0 rl a b (a + 1)).length : Int) := by unfold acN; omega
  rw [x1, g1, eN]
  refine ⟨τ', rfl, g2, fr_trans x2 g3, fun z => ?_, fun z => ?_⟩
  · cases w : acW σ0 rl a b with
    | true =>
      rw [w] at g4
      have k := g4 (Or.inl (by decide))
      have := x3 w
      exact Or.inl ⟨w, by rw [k.1]; exact this.1, by rw [k.2]; exact this.2⟩
    | false =>
      rw [w, b2i_f] at z
      obtain ⟨m, hm⟩ := List.length_eq_one_iff.mp (show (acL σ0 rl a b (a + 1)).length = 1 by omega)
      rw [w] at g5
      exact Or.inr ⟨w, m, hm, g5 rfl m (by rw [hm]; rfl)⟩
  · cases w : acW σ0 rl a b with
    | true =>
      rw [w] at g4
      have k := g4 (Or.inl (by decide))
      have t := x3 w
      rw [k.1, k.2, t.1, t.2]
      unfold acW at w
      simp only [Bool.and_eq_true, decide_eq_true_eq] at w
      have := w.1
      exact ⟨by omega, Or.inl rfl⟩
    | false =>
      rw [w, b2i_f] at z
      cases hl : acL σ0 rl a b (a + 1) with
      | nil => rw [hl] at z; simp at z
      | cons m l =>
        rw [w] at g5
        have t := g5 rfl m (by rw [hl]; rfl)
        have mem : m ∈ acL σ0 rl a b (a + 1) := by rw [hl]; exact List.mem_cons_self ..
        unfold acL at mem
        have mB := (List.mem_filter.mp mem).2
        unfold acB at mB
        simp only [Bool.and_eq_true, decide_eq_true_eq] at mB
        obtain ⟨⟨⟨b1, b2⟩, b3⟩, _⟩ := mB
        have r1 := acX_r E a m
        have r2 := acY_r E m b
        rw [t.1, t.2]
        exact ⟨by omega, Or.inr (by omega)⟩
end

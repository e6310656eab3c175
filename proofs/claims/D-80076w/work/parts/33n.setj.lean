/-! a property is told of an object, of a kind: on both sides -/
theorem set_O {σ τ : ga_S} (Wp : WKp σ τ) (R : RWh σ τ) (hst : τ fM_story 0 = σ fT_bytes 0) (sz : σ fT_size 0 0 ≤ 5000) (hf : σ fR_fault 0 0 = 0) {o p v n m t : Int} (hnm : σ fW_propertyTypes 0 p = 1 → m = n) (ho : 0 ≤ o ∧ o < σ fW_objects 0 0) (ho2 : σ fW_objects 0 0 ≤ 24) (hob : σ fW_objects 0 0 ≤ 24) (hk0 : 0 ≤ σ fW_kinds 0 0) (hp : 0 ≤ p ∧ p < σ fW_properties 0 0) (vo : vlO σ p v n) (ht : 0 ≤ t ∧ t < 5002) {d d' : Nat} (hd : 3 ≤ d) (hd' : 3 ≤ d') : ∃ b σ' τ', c_r_set d σ (o) p v n t = some (b, σ') ∧ c_m_tellObject d' τ o p v m = some (b, τ') ∧ fr (stW ++ ntL) σ σ' ∧ fr [fM_objectTold, fM_objectSays, fM_objectLong] τ τ' ∧ ((b = 1 ∧ fr stW σ σ' ∧ RWh σ' τ') ∨ (b = 0 ∧ τ' = τ ∧ σ' fR_fault 0 0 = 5 ∧ σ' fR_where 0 0 = σ fT_places 0 t)) := by
  have p12 := Wp.2.1
  have et : τ fM_propertyType 0 p = σ fW_propertyTypes 0 p := (Wp.2.2.2.1 p hp.1 hp.2).2.2
  obtain ⟨RO, RK, RZ⟩ := R
  have row := rowH_pv.mp (RO o ho.1 ho.2) p hp.1 (by omega)
  obtain ⟨d', rfl⟩ : ∃ e, d' = e + 1 := ⟨d' - 1, by omega⟩
  have ks := k_set (σ := σ) (r := o) (p := p) (v := v) (n := n) (t := t) (by omega) (by omega) (fun z y => by
    have w := (row.2.2 z).2.2.2.2.1 y
    omega) (fun y => by have w := vo.2.1 y; omega) hf ht (d := d) hd
  have run0 := e_m_tellObject d' τ o p v m
  rw [w32_ok (x := 12 * o) (by omega), w32_ok (x := 12 * o + p) (by omega), ck_ok _ (by omega)] at run0
  have wr : m_tellObject_45 d' τ v m (12 * o + p) = some (1, ga_up (ga_up (ga_up τ fM_objectTold 0 (12 * o + p) 1) fM_objectSays 0 (12 * o + p) v) fM_objectLong 0 (12 * o + p) m) := by
    rw [e_m_tellObject_45, ck_ok _ (by omega), ck_ok _ (by omega), ck_ok _ (by omega)]
  obtain ⟨τ1, e1⟩ : ∃ x, x = ga_up (ga_up (ga_up τ fM_objectTold 0 (12 * o + p) 1) fM_objectSays 0 (12 * o + p) v) fM_objectLong 0 (12 * o + p) m := ⟨_, rfl⟩
  rw [← e1] at wr
  have f1 : fr [fM_objectTold, fM_objectSays, fM_objectLong] τ τ1 := by rw [e1]; exact fr_trans (fr_u (by decide)) (fr_trans (fr_u (by decide)) (fr_u (by decide)))
  have y1 : ∀ i, τ1 fM_objectTold 0 i = if i = 12 * o + p then 1 else τ fM_objectTold 0 i := by intro i; rw [e1, up_F (by decide), up_F (by decide), up_at]
  have y2 : ∀ i, τ1 fM_objectSays 0 i = if i = 12 * o + p then v else τ fM_objectSays 0 i := by intro i; rw [e1, up_F (by decide), up_at, up_F (by decide)]
  have y3 : ∀ i, τ1 fM_objectLong 0 i = if i = 12 * o + p then m else τ fM_objectLong 0 i := by intro i; rw [e1, up_at, up_F (by decide), up_F (by decide)]
  have fin : ∀ σ', pvR σ' 1 v m (o) p → (∀ T S Lg r' p', ¬ (r' = o ∧ p' = p) → pvR σ T S Lg r' p' → pvR σ' T S Lg r' p') → σ' fW_objects = σ fW_objects → σ' fW_kinds = σ fW_kinds → (∀ r' p', ¬ (r' = o ∧ p' = p) → σ' fW_has r' p' = σ fW_has r' p') → RWh σ' τ1 := by
    intro σ' g1 g2 g3 g4 g5
    refine ⟨fun o' a0 a1 => rowH_pv.mpr (fun p' b0 b1 => ?_), fun k' a0 a1 => rowH_pv.mpr (fun p' b0 b1 => ?_), fun r' p' a b0 b1 => ?_⟩
    · rw [g3] at a1
      have w := rowH_pv.mp (RO o' a0 a1) p' b0 b1
      by_cases ne : o' = o ∧ p' = p
      · obtain ⟨ea, eb⟩ := ne
        subst ea
        subst eb
        rw [y1, y2, y3, if_pos rfl, if_pos rfl, if_pos rfl]
        exact g1
      · rw [y1, y2, y3, if_neg (by omega), if_neg (by omega), if_neg (by omega)]
        exact g2 _ _ _ _ _ (by omega) w
    · rw [g4] at a1
      have w := rowH_pv.mp (RK k' a0 a1) p' b0 b1
      rw [f1 fM_kindTold (by decide), f1 fM_kindSays (by decide), f1 fM_kindLong (by decide)]
      exact g2 _ _ _ _ _ (by omega) w
    · rw [g3, g4] at a
      rw [g5 r' p' (by omega)]
      exact RZ r' p' a b0 b1
  rcases ks with ⟨c, k1⟩ | ⟨c, s, k1⟩ | ⟨c, s, σ', k1, k2, k3, k4⟩
  · obtain ⟨σ', e2⟩ : ∃ x, x = ga_up (ga_up (ga_up σ fW_has (o) p 1) fW_numbers (o) p v) fW_lengths (o) p n := ⟨_, rfl⟩
    rw [← e2] at k1
    have f2 : fr stW σ σ' := by rw [e2]; exact fr_trans (fr_u (by decide)) (fr_trans (fr_u (by decide)) (fr_u (by decide)))
    rw [row.2.1, if_pos c, wr] at run0
    exact ⟨1, σ', τ1, k1, run0, fr_sub f2 (by decide), f1, Or.inl ⟨rfl, f2, fin σ' (pvR_new hnm hp.2 vo e2) (fun T S Lg r' p' ne h => pvR_other h ne e2) (f2 _ (by decide)) (f2 _ (by decide)) (fun r' p' ne => by rw [e2, up_F (by decide), up_F (by decide), up_nat, if_neg ne])⟩⟩
  · have h1 : σ fW_has (o) p = 1 := by have := row.1; omega
    have row1 : pvR σ 1 (τ fM_objectSays 0 (12 * o + p)) (τ fM_objectLong 0 (12 * o + p)) (o) p := ⟨row.1, h1.symm, row.2.2⟩
    have q := row.2.2 c
    have tl := m_tellsOtherwise (τ := τ) (p := p) (x := τ fM_objectSays 0 (12 * o + p)) (a := τ fM_objectLong 0 (12 * o + p)) (y := v) (b := m) (by omega) (fun y => by rw [et] at y; have := (q.2.2.1 y); have := q.2.2.2.2.1 y; unfold sTx at *; omega) (fun y => by rw [et] at y; have := vo.2.1 y; have := hnm y; omega) (d := d') (by omega)
    rw [sV_same hnm row1 c et hst, s] at tl
    rw [row.2.1, if_neg c, ck_ok _ (by omega), ck_ok _ (by omega), tl] at run0
    simp only [Option.bind_some] at run0
    rw [if_pos (by decide), wr] at run0
    exact ⟨1, σ, τ1, k1, run0, fr_refl _ _, f1, Or.inl ⟨rfl, fr_refl _ _, fin σ (pvR_same hnm row1 c vo s) (fun _ _ _ _ _ _ h => h) rfl rfl (fun _ _ _ => rfl)⟩⟩
  · have h1 : σ fW_has (o) p = 1 := by have := row.1; omega
    have row1 : pvR σ 1 (τ fM_objectSays 0 (12 * o + p)) (τ fM_objectLong 0 (12 * o + p)) (o) p := ⟨row.1, h1.symm, row.2.2⟩
    have q := row.2.2 c
    have tl := m_tellsOtherwise (τ := τ) (p := p) (x := τ fM_objectSays 0 (12 * o + p)) (a := τ fM_objectLong 0 (12 * o + p)) (y := v) (b := m) (by omega) (fun y => by rw [et] at y; have := (q.2.2.1 y); have := q.2.2.2.2.1 y; unfold sTx at *; omega) (fun y => by rw [et] at y; have := vo.2.1 y; have := hnm y; omega) (d := d') (by omega)
    rw [sV_same hnm row1 c et hst, s] at tl
    rw [row.2.1, if_neg c, ck_ok _ (by omega), ck_ok _ (by omega), tl] at run0
    simp only [Option.bind_some] at run0
    rw [if_neg (by decide)] at run0
    exact ⟨0, σ', τ, k1, run0, fr_sub k2 (by decide), fr_refl _ _, Or.inr ⟨rfl, rfl, k3, k4⟩⟩
theorem set_K {σ τ : ga_S} (Wp : WKp σ τ) (R : RWh σ τ) (hst : τ fM_story 0 = σ fT_bytes 0) (sz : σ fT_size 0 0 ≤ 5000) (hf : σ fR_fault 0 0 = 0) {o p v n m t : Int} (hnm : σ fW_propertyTypes 0 p = 1 → m = n) (ho : 0 ≤ o ∧ o < σ fW_kinds 0 0) (ho2 : σ fW_kinds 0 0 ≤ 16) (hob : σ fW_objects 0 0 ≤ 24) (hk0 : 0 ≤ σ fW_kinds 0 0) (hp : 0 ≤ p ∧ p < σ fW_properties 0 0) (vo : vlO σ p v n) (ht : 0 ≤ t ∧ t < 5002) {d d' : Nat} (hd : 3 ≤ d) (hd' : 3 ≤ d') : ∃ b σ' τ', c_r_set d σ (24 + o) p v n t = some (b, σ') ∧ c_m_tellKind d' τ o p v m = some (b, τ') ∧ fr (stW ++ ntL) σ σ' ∧ fr [fM_kindTold, fM_kindSays, fM_kindLong] τ τ' ∧ ((b = 1 ∧ fr stW σ σ' ∧ RWh σ' τ') ∨ (b = 0 ∧ τ' = τ ∧ σ' fR_fault 0 0 = 5 ∧ σ' fR_where 0 0 = σ fT_places 0 t)) := by
  have p12 := Wp.2.1
  have et : τ fM_propertyType 0 p = σ fW_propertyTypes 0 p := (Wp.2.2.2.1 p hp.1 hp.2).2.2
  obtain ⟨RO, RK, RZ⟩ := R
  have row := rowH_pv.mp (RK o ho.1 ho.2) p hp.1 (by omega)
  obtain ⟨d', rfl⟩ : ∃ e, d' = e + 1 := ⟨d' - 1, by omega⟩
  have ks := k_set (σ := σ) (r := 24 + o) (p := p) (v := v) (n := n) (t := t) (by omega) (by omega) (fun z y => by
    have w := (row.2.2 z).2.2.2.2.1 y
    omega) (fun y => by have w := vo.2.1 y; omega) hf ht (d := d) hd
  have run0 := e_m_tellKind d' τ o p v m
  rw [w32_ok (x := 12 * o) (by omega), w32_ok (x := 12 * o + p) (by omega), ck_ok _ (by omega)] at run0
  have wr : m_tellKind_45 d' τ v m (12 * o + p) = some (1, ga_up (ga_up (ga_up τ fM_kindTold 0 (12 * o + p) 1) fM_kindSays 0 (12 * o + p) v) fM_kindLong 0 (12 * o + p) m) := by
    rw [e_m_tellKind_45, ck_ok _ (by omega), ck_ok _ (by omega), ck_ok _ (by omega)]
  obtain ⟨τ1, e1⟩ : ∃ x, x = ga_up (ga_up (ga_up τ fM_kindTold 0 (12 * o + p) 1) fM_kindSays 0 (12 * o + p) v) fM_kindLong 0 (12 * o + p) m := ⟨_, rfl⟩
  rw [← e1] at wr
  have f1 : fr [fM_kindTold, fM_kindSays, fM_kindLong] τ τ1 := by rw [e1]; exact fr_trans (fr_u (by decide)) (fr_trans (fr_u (by decide)) (fr_u (by decide)))
  have y1 : ∀ i, τ1 fM_kindTold 0 i = if i = 12 * o + p then 1 else τ fM_kindTold 0 i := by intro i; rw [e1, up_F (by decide), up_F (by decide), up_at]
  have y2 : ∀ i, τ1 fM_kindSays 0 i = if i = 12 * o + p then v else τ fM_kindSays 0 i := by intro i; rw [e1, up_F (by decide), up_at, up_F (by decide)]
  have y3 : ∀ i, τ1 fM_kindLong 0 i = if i = 12 * o + p then m else τ fM_kindLong 0 i := by intro i; rw [e1, up_at, up_F (by decide), up_F (by decide)]
  have fin : ∀ σ', pvR σ' 1 v m (24 + o) p → (∀ T S Lg r' p', ¬ (r' = 24 + o ∧ p' = p) → pvR σ T S Lg r' p' → pvR σ' T S Lg r' p') → σ' fW_objects = σ fW_objects → σ' fW_kinds = σ fW_kinds → (∀ r' p', ¬ (r' = 24 + o ∧ p' = p) → σ' fW_has r' p' = σ fW_has r' p') → RWh σ' τ1 := by
    intro σ' g1 g2 g3 g4 g5
    refine ⟨fun o' a0 a1 => rowH_pv.mpr (fun p' b0 b1 => ?_), fun k' a0 a1 => rowH_pv.mpr (fun p' b0 b1 => ?_), fun r' p' a b0 b1 => ?_⟩
    · rw [g3] at a1
      have w := rowH_pv.mp (RO o' a0 a1) p' b0 b1
      rw [f1 fM_objectTold (by decide), f1 fM_objectSays (by decide), f1 fM_objectLong (by decide)]
      exact g2 _ _ _ _ _ (by omega) w
    · rw [g4] at a1
      have w := rowH_pv.mp (RK k' a0 a1) p' b0 b1
      by_cases ne : k' = o ∧ p' = p
      · obtain ⟨ea, eb⟩ := ne
        subst ea
        subst eb
        rw [y1, y2, y3, if_pos rfl, if_pos rfl, if_pos rfl]
        exact g1
      · rw [y1, y2, y3, if_neg (by omega), if_neg (by omega), if_neg (by omega)]
        exact g2 _ _ _ _ _ (by omega) w
    · rw [g3, g4] at a
      rw [g5 r' p' (by omega)]
      exact RZ r' p' a b0 b1
  rcases ks with ⟨c, k1⟩ | ⟨c, s, k1⟩ | ⟨c, s, σ', k1, k2, k3, k4⟩
  · obtain ⟨σ', e2⟩ : ∃ x, x = ga_up (ga_up (ga_up σ fW_has (24 + o) p 1) fW_numbers (24 + o) p v) fW_lengths (24 + o) p n := ⟨_, rfl⟩
    rw [← e2] at k1
    have f2 : fr stW σ σ' := by rw [e2]; exact fr_trans (fr_u (by decide)) (fr_trans (fr_u (by decide)) (fr_u (by decide)))
    rw [row.2.1, if_pos c, wr] at run0
    exact ⟨1, σ', τ1, k1, run0, fr_sub f2 (by decide), f1, Or.inl ⟨rfl, f2, fin σ' (pvR_new hnm hp.2 vo e2) (fun T S Lg r' p' ne h => pvR_other h ne e2) (f2 _ (by decide)) (f2 _ (by decide)) (fun r' p' ne => by rw [e2, up_F (by decide), up_F (by decide), up_nat, if_neg ne])⟩⟩
  · have h1 : σ fW_has (24 + o) p = 1 := by have := row.1; omega
    have row1 : pvR σ 1 (τ fM_kindSays 0 (12 * o + p)) (τ fM_kindLong 0 (12 * o + p)) (24 + o) p := ⟨row.1, h1.symm, row.2.2⟩
    have q := row.2.2 c
    have tl := m_tellsOtherwise (τ := τ) (p := p) (x := τ fM_kindSays 0 (12 * o + p)) (a := τ fM_kindLong 0 (12 * o + p)) (y := v) (b := m) (by omega) (fun y => by rw [et] at y; have := (q.2.2.1 y); have := q.2.2.2.2.1 y; unfold sTx at *; omega) (fun y => by rw [et] at y; have := vo.2.1 y; have := hnm y; omega) (d := d') (by omega)
    rw [sV_same hnm row1 c et hst, s] at tl
    rw [row.2.1, if_neg c, ck_ok _ (by omega), ck_ok _ (by omega), tl] at run0
    simp only [Option.bind_some] at run0
    rw [if_pos (by decide), wr] at run0
    exact ⟨1, σ, τ1, k1, run0, fr_refl _ _, f1, Or.inl ⟨rfl, fr_refl _ _, fin σ (pvR_same hnm row1 c vo s) (fun _ _ _ _ _ _ h => h) rfl rfl (fun _ _ _ => rfl)⟩⟩
  · have h1 : σ fW_has (24 + o) p = 1 := by have := row.1; omega
    have row1 : pvR σ 1 (τ fM_kindSays 0 (12 * o + p)) (τ fM_kindLong 0 (12 * o + p)) (24 + o) p := ⟨row.1, h1.symm, row.2.2⟩
    have q := row.2.2 c
    have tl := m_tellsOtherwise (τ := τ) (p := p) (x := τ fM_kindSays 0 (12 * o + p)) (a := τ fM_kindLong 0 (12 * o + p)) (y := v) (b := m) (by omega) (fun y => by rw [et] at y; have := (q.2.2.1 y); have := q.2.2.2.2.1 y; unfold sTx at *; omega) (fun y => by rw [et] at y; have := vo.2.1 y; have := hnm y; omega) (d := d') (by omega)
    rw [sV_same hnm row1 c et hst, s] at tl
    rw [row.2.1, if_neg c, ck_ok _ (by omega), ck_ok _ (by omega), tl] at run0
    simp only [Option.bind_some] at run0
    rw [if_neg (by decide)] at run0
    exact ⟨0, σ', τ, k1, run0, fr_sub k2 (by decide), fr_refl _ _, Or.inr ⟨rfl, rfl, k3, k4⟩⟩

/-! the model's world as at first, all of it -/
def bm0 (τ : ga_S) : ga_S := ga_up (ga_up (ga_up (ga_up (ga_up (ga_up (ga_up (ga_up (ga_up (ga_up (ga_up (ga_up (ga_up (ga_up (ga_up (ga_up (ga_up τ fM_lexes 0 0 0) fM_kinds 0 0 0) fM_types 0 0 2) fM_objects 0 0 0) fM_adjectives 0 0 0) fM_values 0 0 0) fM_properties 0 0 1) fM_relations 0 0 0) fM_verbs 0 0 0) fM_actions 0 0 0) fM_ways 0 0 0) fM_commands 0 0 0) fM_rules 0 0 0) fM_tests 0 0 0) fM_phrases 0 0 0) fM_described 0 0 (-1)) fM_outSize 0 0 0
def bm0L : List Nat := [fM_lexes, fM_kinds, fM_types, fM_objects, fM_adjectives, fM_values, fM_properties, fM_relations, fM_verbs, fM_actions, fM_ways, fM_commands, fM_rules, fM_tests, fM_phrases, fM_described, fM_outSize]
theorem bm0_fr (τ : ga_S) : fr bm0L τ (bm0 τ) := by
  unfold bm0
  exact fr_trans (fr_trans (fr_trans (fr_trans (fr_trans (fr_trans (fr_trans (fr_trans (fr_trans (fr_trans (fr_trans (fr_trans (fr_trans (fr_trans (fr_trans (fr_trans (fr_u (by decide)) (fr_u (by decide))) (fr_u (by decide))) (fr_u (by decide))) (fr_u (by decide))) (fr_u (by decide))) (fr_u (by decide))) (fr_u (by decide))) (fr_u (by decide))) (fr_u (by decide))) (fr_u (by decide))) (fr_u (by decide))) (fr_u (by decide))) (fr_u (by decide))) (fr_u (by decide))) (fr_u (by decide))) (fr_u (by decide))
theorem bm0_v (τ : ga_S) : (bm0 τ) fM_lexes 0 0 = 0 ∧ (bm0 τ) fM_kinds 0 0 = 0 ∧ (bm0 τ) fM_types 0 0 = 2 ∧ (bm0 τ) fM_objects 0 0 = 0 ∧ (bm0 τ) fM_adjectives 0 0 = 0 ∧ (bm0 τ) fM_values 0 0 = 0 ∧ (bm0 τ) fM_properties 0 0 = 1 ∧ (bm0 τ) fM_relations 0 0 = 0 ∧ (bm0 τ) fM_verbs 0 0 = 0 ∧ (bm0 τ) fM_actions 0 0 = 0 ∧ (bm0 τ) fM_ways 0 0 = 0 ∧ (bm0 τ) fM_commands 0 0 = 0 ∧ (bm0 τ) fM_rules 0 0 = 0 ∧ (bm0 τ) fM_tests 0 0 = 0 ∧ (bm0 τ) fM_phrases 0 0 = 0 ∧ (bm0 τ) fM_described 0 0 = (-1) ∧ (bm0 τ) fM_outSize 0 0 = 0 := by
  unfold bm0
  refine ⟨?_, ?_, ?_, ?_, ?_, ?_, ?_, ?_, ?_, ?_, ?_, ?_, ?_, ?_, ?_, ?_, ?_⟩
  · rw [up_F (by decide), up_F (by decide), up_F (by decide), up_F (by decide), up_F (by decide), up_F (by decide), up_F (by decide), up_F (by decide), up_F (by decide), up_F (by decide), up_F (by decide), up_F (by decide), up_F (by decide), up_F (by decide), up_F (by decide), up_F (by decide), up_eq]
  · rw [up_F (by decide), up_F (by decide), up_F (by decide), up_F (by decide), up_F (by decide), up_F (by decide), up_F (by decide), up_F (by decide), up_F (by decide), up_F (by decide), up_F (by decide), up_F (by decide), up_F (by decide), up_F (by decide), up_F (by decide), up_eq]
  · rw [up_F (by decide), up_F (by decide), up_F (by decide), up_F (by decide), up_F (by decide), up_F (by decide), up_F (by decide), up_F (by decide), up_F (by decide), up_F (by decide), up_F (by decide), up_F (by decide), up_F (by decide), up_F (by decide), up_eq]
  · rw [up_F (by decide), up_F (by decide), up_F (by decide), up_F (by decide), up_F (by decide), up_F (by decide), up_F (by decide), up_F (by decide), up_F (by decide), up_F (by decide), up_F (by decide), up_F (by decide), up_F (by decide), up_eq]
  · rw [up_F (by decide), up_F (by decide), up_F (by decide), up_F (by decide), up_F (by decide), up_F (by decide), up_F (by decide), up_F (by decide), up_F (by decide), up_F (by decide), up_F (by decide), up_F (by decide), up_eq]
  · rw [up_F (by decide), up_F (by decide), up_F (by decide), up_F (by decide), up_F (by decide), up_F (by decide), up_F (by decide), up_F (by decide), up_F (by decide), up_F (by decide), up_F (by decide), up_eq]
  · rw [up_F (by decide), up_F (by decide), up_F (by decide), up_F (by decide), up_F (by decide), up_F (by decide), up_F (by decide), up_F (by decide), up_F (by decide), up_F (by decide), up_eq]
  · rw [up_F (by decide), up_F (by decide), up_F (by decide), up_F (by decide), up_F (by decide), up_F (by decide), up_F (by decide), up_F (by decide), up_F (by decide), up_eq]
  · rw [up_F (by decide), up_F (by decide), up_F (by decide), up_F (by decide), up_F (by decide), up_F (by decide), up_F (by decide), up_F (by decide), up_eq]
  · rw [up_F (by decide), up_F (by decide), up_F (by decide), up_F (by decide), up_F (by decide), up_F (by decide), up_F (by decide), up_eq]
  · rw [up_F (by decide), up_F (by decide), up_F (by decide), up_F (by decide), up_F (by decide), up_F (by decide), up_eq]
  · rw [up_F (by decide), up_F (by decide), up_F (by decide), up_F (by decide), up_F (by decide), up_eq]
  · rw [up_F (by decide), up_F (by decide), up_F (by decide), up_F (by decide), up_eq]
  · rw [up_F (by decide), up_F (by decide), up_F (by decide), up_eq]
  · rw [up_F (by decide), up_F (by decide), up_eq]
  · rw [up_F (by decide), up_eq]
  · rw [up_eq]
def apM : List Nat := adX ++ noM ++ [fM_propertyType, fM_kindHas] ++ lexL
/-- types, adjectives, the property, the player -/
theorem mc_2 {τ : ga_S} (D2 : ML τ EA) (z1 : τ fM_adjectives 0 0 = 0) (z2 : τ fM_objects 0 0 = 0) (z3 : ∀ i, 0 ≤ i → i < 60 → τ fM_kindHas 0 i = 0) {d : Nat} (hd : 3 ≤ d) : ∃ τ', m_begin_87 d τ 5 = m_begin_316 d τ' 0 ∧ fr apM τ τ' ∧ ML τ' EP ∧ (τ' fM_objects 0 0 = 1 ∧ τ' fM_kindOf 0 0 = 4 ∧ τ' fM_way 0 0 = 0 ∧ τ' fM_there 0 0 = -1 ∧ (∀ i, 0 ≤ i → i < 24 → τ' fM_objectIs 0 i = 0) ∧ (∀ i, 0 ≤ i → i < 12 → τ' fM_objectTold 0 i = 0)) ∧ (τ' fM_adjectives 0 0 = 2 ∧ τ' fM_adjectiveKind 0 0 = 0 ∧ τ' fM_adjectiveKind 0 1 = 0 ∧ τ' fM_contrary 0 0 = 1 ∧ τ' fM_contrary 0 1 = 0 ∧ τ' fM_definedTests 0 0 = 0 ∧ τ' fM_definedTests 0 1 = 0) ∧ (τ' fM_propertyType 0 0 = 1 ∧ ∀ i, 0 ≤ i → i < 60 → τ' fM_kindHas 0 i = if i = 0 ∨ i = 12 then 1 else 0) := by
  obtain ⟨a1, x1, x2, x3⟩ := m_tell1 (s := 1) (n := 0) (ms := 2) (mi := 0) D2 (by decide) lt10 rfl rfl (d := d) hd
  obtain ⟨a2, y1, y2, y3⟩ := m_tell1 (s := 1) (n := 1) (ms := 2) (mi := 1) x3 (by decide) lt11 rfl rfl (d := d) hd
  have fA : fr lexL τ a2 := fr_trans x2 y2
  obtain ⟨b1, p1, p2, p3, p4, p5, p6⟩ := m_addAdjective (τ := a2) (k := 0) (o := 1) (A := 0) (by rw [fA _ (by decide)]; exact z1.symm) (by decide) (by decide) (d := d) (by omega)
  obtain ⟨b2, q1, q2, q3, q4, q5, q6⟩ := m_addAdjective (τ := b1) (k := 0) (o := 0) (A := 1) (by rw [p3]; rfl) (by decide) (by decide) (d := d) (by omega)
  have fB : fr adX a2 b2 := fr_trans p2 q2
  obtain ⟨c1, r1, r2, r3⟩ := m_tell1 (s := 3) (n := 0) (ms := 5) (mi := 0) (ML_f y3 fB (by decide)) (by decide) lt12 rfl rfl (d := d) hd
  obtain ⟨c2, s1, s2, s3⟩ := m_tell1 (s := 3) (n := 1) (ms := 5) (mi := 1) r3 (by decide) lt13 rfl rfl (d := d) hd
  have fC : fr lexL b2 c2 := fr_trans r2 s2
  obtain ⟨c3, e3⟩ : ∃ x, x = ga_up (ga_up (ga_up c2 fM_propertyType 0 0 1) fM_kindHas 0 0 1) fM_kindHas 0 12 1 := ⟨_, rfl⟩
  have f3 : fr [fM_propertyType, fM_kindHas] c2 c3 := by rw [e3]; exact fr_trans (fr_trans (fr_u (by decide)) (fr_u (by decide))) (fr_u (by decide))
  obtain ⟨c4, t1, t2, t3⟩ := m_tell1 (s := 5) (n := 0) (ms := 7) (mi := 0) (ML_f s3 f3 (by decide)) (by decide) lt14 rfl rfl (d := d) hd
  have nob : c4 fM_objects 0 0 = 0 := by rw [t2 _ (by decide), f3 _ (by decide), fC _ (by decide), fB _ (by decide), fA _ (by decide)]; exact z2
  obtain ⟨c5, u1, u2, u3, u4, u5, u6, u7, u8⟩ := m_addObject (kd := 4) nob (by decide) (d := d) (by omega)
  obtain ⟨c6, v1, v2, v3⟩ := m_tell1 (s := 2) (n := 0) (ms := 4) (mi := 0) (ML_f t3 u2 (by decide)) (by decide) lt15 rfl rfl (d := d) hd
  have g1 : fr (noM ++ lexL) c3 c6 := fr_trans (fr_sub t2 (mem_all (by decide))) (fr_trans (fr_sub u2 (mem_all (by decide))) (fr_sub v2 (mem_all (by decide))))
  have g2 : fr (noM ++ lexL ++ [fM_propertyType, fM_kindHas]) b2 c6 := fr_trans (fr_sub fC (mem_all (by decide))) (fr_trans (fr_sub f3 (mem_all (by decide))) (fr_sub g1 (mem_all (by decide))))
  refine ⟨c6, ?_, fr_trans (fr_sub fA (mem_all (by decide))) (fr_trans (fr_sub fB (mem_all (by decide))) (fr_sub g2 (mem_all (by decide)))), v3, ⟨?_, ?_, ?_, ?_, fun i h0 h1 => ?_, fun i h0 h1 => ?_⟩, ⟨?_, ?_, ?_, ?_, ?_, ?_, ?_⟩, ?_, fun i h0 h1 => ?_⟩
  · rw [e_m_begin_87, if_neg (by decide), x1, Option.bind_some, y1, Option.bind_some, p1, Option.bind_some, q1, Option.bind_some, r1, Option.bind_some, s1, Option.bind_some, ← e3, t1, Option.bind_some, u1, Option.bind_some, v1, Option.bind_some]
  · rw [v2 _ (by decide), u3]; rfl
  · rw [v2 _ (by decide), u4, if_pos rfl]
  · rw [v2 _ (by decide), u5, if_pos rfl]
  · rw [v2 _ (by decide), u6, if_pos rfl]
  · rw [v2 _ (by decide), u7, if_pos (by omega)]
  · rw [v2 _ (by decide), u8, if_pos (by omega)]
  · rw [g2 _ (by decide), q3]; rfl
  · rw [g2 _ (by decide), q4, if_neg (by decide), p4, if_pos rfl]
  · rw [g2 _ (by decide), q4, if_pos rfl]
  · rw [g2 _ (by decide), q5, if_neg (by decide), p5, if_pos rfl]
  · rw [g2 _ (by decide), q5, if_pos rfl]
  · rw [g2 _ (by decide), q6, if_neg (by decide), p6, if_pos rfl]
  · rw [g2 _ (by decide), q6, if_pos rfl]
  · rw [g1 _ (by decide), e3, up_F (by decide), up_F (by decide), up_eq]
  · rw [g1 _ (by decide), e3, up_at, up_at, up_F (by decide), fC _ (by decide), fB _ (by decide), fA _ (by decide), z3 i h0 h1]
    by_cases c12 : i = 12
    · rw [if_pos c12, if_pos (Or.inr c12)]
    · rw [if_neg c12]
      by_cases c0 : i = 0
      · rw [if_pos c0, if_pos (Or.inl c0)]
      · rw [if_neg c0, if_neg (by omega)]
/-- the model's world as at first -/
def WBM (τ : ga_S) : Prop := (τ fM_kinds 0 0 = 5 ∧ τ fM_above 0 0 = -1 ∧ τ fM_above 0 1 = -1 ∧ τ fM_above 0 2 = 0 ∧ τ fM_above 0 3 = 0 ∧ τ fM_above 0 4 = 0) ∧ ((∀ i, 0 ≤ i → i < 60 → τ fM_kindTold 0 i = 0) ∧ (∀ i, 0 ≤ i → i < 120 → τ fM_kindIs 0 i = 0)) ∧
  (τ fM_objects 0 0 = 1 ∧ τ fM_kindOf 0 0 = 4 ∧ τ fM_way 0 0 = 0 ∧ τ fM_there 0 0 = -1 ∧ (∀ i, 0 ≤ i → i < 24 → τ fM_objectIs 0 i = 0) ∧ (∀ i, 0 ≤ i → i < 12 → τ fM_objectTold 0 i = 0)) ∧
  (τ fM_adjectives 0 0 = 2 ∧ τ fM_adjectiveKind 0 0 = 0 ∧ τ fM_adjectiveKind 0 1 = 0 ∧ τ fM_contrary 0 0 = 1 ∧ τ fM_contrary 0 1 = 0 ∧ τ fM_definedTests 0 0 = 0 ∧ τ fM_definedTests 0 1 = 0) ∧
  (τ fM_propertyType 0 0 = 1 ∧ ∀ i, 0 ≤ i → i < 60 → τ fM_kindHas 0 i = if i = 0 ∨ i = 12 then 1 else 0) ∧
  (τ fM_actions 0 0 = 5 ∧ τ fM_actionKind 0 0 = -1 ∧ τ fM_actionKind 0 1 = 0 ∧ τ fM_actionKind 0 2 = 0 ∧ τ fM_actionKind 0 3 = 0 ∧ τ fM_actionKind 0 4 = -2) ∧
  (τ fM_types 0 0 = 2 ∧ τ fM_values 0 0 = 0 ∧ τ fM_properties 0 0 = 1 ∧ τ fM_relations 0 0 = 0 ∧ τ fM_verbs 0 0 = 0 ∧ τ fM_ways 0 0 = 0 ∧ τ fM_rules 0 0 = 0 ∧ τ fM_tests 0 0 = 0 ∧ τ fM_phrases 0 0 = 0 ∧ τ fM_described 0 0 = -1 ∧ τ fM_outSize 0 0 = 0) ∧
  (τ fM_commands 0 0 = 7 ∧ CRM τ 0 0 (-1) wd22 ∧ CRM τ 1 1 0 wd23 ∧ CRM τ 2 1 0 wd24 ∧ CRM τ 3 2 0 wd25 ∧ CRM τ 4 3 0 wd26 ∧ CRM τ 5 4 (-2) wd27 ∧ CRM τ 6 4 (-2) []) ∧ (∀ i, 0 ≤ i → i < 3456 → τ fM_related 0 i = 0) ∧ ML τ EB
def beX : List Nat := bm0L ++ akX ++ apM ++ aaX ++ (fM_related :: cwM)
theorem m_begin {τ : ga_S} {d : Nat} (hd : 4 ≤ d) : ∃ τ', c_m_begin d τ = some (0, τ') ∧ fr beX τ τ' ∧ WBM τ' := by
  obtain ⟨d, rfl⟩ : ∃ e, d = e + 1 := ⟨d - 1, by omega⟩
  have f0 := bm0_fr τ
  obtain ⟨z1, z2, z3, z4, z5, z6, z7, z8, z9, z10, z11, z12, z13, z14, z15, z16, z17⟩ := bm0_v τ
  have M0 : ML (bm0 τ) [] := ⟨z1, fun k hk => absurd hk (Nat.not_lt_zero _)⟩
  obtain ⟨a, a1, a2, a3, a4, a5, a6⟩ := mc_A M0 z2 (d := d) (by omega)
  obtain ⟨b, b1, b2, b3, b4, b5, b6⟩ := mc_2 a3 (by rw [a2 _ (by decide)]; exact z5) (by rw [a2 _ (by decide)]; exact z4) (fun i x y => (a5 i x y).1) (d := d) (by omega)
  obtain ⟨c, c1, c2, c3, c4⟩ := mc_F b3 (by rw [b2 _ (by decide), a2 _ (by decide)]; exact z10) (d := d) (by omega)
  obtain ⟨e, e1, e2, e3⟩ := mc_G c3 (d := d) (by omega)
  obtain ⟨h, h1, h2, h3, h4, h5⟩ := mc_H (τ := e) (by rw [e2 _ (by decide), c2 _ (by decide), b2 _ (by decide), a2 _ (by decide)]; exact z12) (d := d) (by omega)
  have G0 : fr (aaX ++ (fM_related :: cwM)) b h := fr_trans (fr_sub c2 (mem_all (by decide))) (fr_trans (fr_sub e2 (mem_all (by decide))) (fr_sub h2 (mem_all (by decide))))
  have G9 : fr (lexL ++ (fM_related :: cwM)) c h := fr_trans (fr_sub e2 (mem_all (by decide))) (fr_sub h2 (mem_all (by decide)))
  have G1 : fr (apM ++ aaX ++ (fM_related :: cwM)) a h := fr_trans (fr_sub b2 (mem_all (by decide))) (fr_sub G0 (mem_all (by decide)))
  have G2 : fr (akX ++ apM ++ aaX ++ (fM_related :: cwM)) (bm0 τ) h := fr_trans (fr_sub a2 (mem_all (by decide))) (fr_sub G1 (mem_all (by decide)))
  refine ⟨h, ?_, fr_trans (fr_sub f0 (mem_all (by decide))) (fr_sub G2 (mem_all (by decide))), ⟨?_, ?_, ?_, ?_, ?_, ?_⟩, ⟨fun i x y => ?_, fun i x y => ?_⟩, ⟨?_, ?_, ?_, ?_, fun i x y => ?_, fun i x y => ?_⟩, ⟨?_, ?_, ?_, ?_, ?_, ?_, ?_⟩, ⟨?_, fun i x y => ?_⟩, ⟨?_, ?_, ?_, ?_, ?_, ?_⟩, ⟨?_, ?_, ?_, ?_, ?_, ?_, ?_, ?_, ?_, ?_, ?_⟩, ⟨h3, h4⟩, h5, ML_f e3 h2 (by decide)⟩
  · rw [e_m_begin]
    show m_begin_87 d (bm0 τ) 0 = _
    rw [a1, b1, c1, e_m_begin_316, if_neg (by decide), e1, h1]
  · rw [G1 _ (by decide)]; exact a4.1
  · rw [G1 _ (by decide)]; exact a4.2.1
  · rw [G1 _ (by decide)]; exact a4.2.2.1
  · rw [G1 _ (by decide)]; exact a4.2.2.2.1
  · rw [G1 _ (by decide)]; exact a4.2.2.2.2.1
  · rw [G1 _ (by decide)]; exact a4.2.2.2.2.2
  · rw [G1 _ (by decide)]; exact (a5 i x y).2
  · rw [G1 _ (by decide)]; exact a6 i x y
  · rw [G0 _ (by decide)]; exact b4.1
  · rw [G0 _ (by decide)]; exact b4.2.1
  · rw [G0 _ (by decide)]; exact b4.2.2.1
  · rw [G0 _ (by decide)]; exact b4.2.2.2.1
  · rw [G0 _ (by decide)]; exact b4.2.2.2.2.1 i x y
  · rw [G0 _ (by decide)]; exact b4.2.2.2.2.2 i x y
  · rw [G0 _ (by decide)]; exact b5.1
  · rw [G0 _ (by decide)]; exact b5.2.1
  · rw [G0 _ (by decide)]; exact b5.2.2.1
  · rw [G0 _ (by decide)]; exact b5.2.2.2.1
  · rw [G0 _ (by decide)]; exact b5.2.2.2.2.1
  · rw [G0 _ (by decide)]; exact b5.2.2.2.2.2.1
  · rw [G0 _ (by decide)]; exact b5.2.2.2.2.2.2
  · rw [G0 _ (by decide)]; exact b6.1
  · rw [G0 _ (by decide)]; exact b6.2 i x y
  · rw [G9 _ (by decide)]; exact c4.1
  · rw [G9 _ (by decide)]; exact c4.2.1
  · rw [G9 _ (by decide)]; exact c4.2.2.1
  · rw [G9 _ (by decide)]; exact c4.2.2.2.1
  · rw [G9 _ (by decide)]; exact c4.2.2.2.2.1
  · rw [G9 _ (by decide)]; exact c4.2.2.2.2.2
  · rw [G2 _ (by decide)]; exact z3
  · rw [G2 _ (by decide)]; exact z6
  · rw [G2 _ (by decide)]; exact z7
  · rw [G2 _ (by decide)]; exact z8
  · rw [G2 _ (by decide)]; exact z9
  · rw [G2 _ (by decide)]; exact z11
  · rw [G2 _ (by decide)]; exact z13
  · rw [G2 _ (by decide)]; exact z14
  · rw [G2 _ (by decide)]; exact z15
  · rw [G2 _ (by decide)]; exact z16
  · rw [G2 _ (by decide)]; exact z17

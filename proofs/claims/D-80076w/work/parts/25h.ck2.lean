/-! checks of the sorts 18, 8, 17 -/
theorem pl_lt {σ τ : ga_S} {f : Int} {N : Nat} (E : TOK σ τ f N) : ∀ (n : Nat) (a : Int), 0 ≤ a → a + n + 1 ≤ N → σ fT_places 0 a < σ fT_places 0 (a + n + 1) := by
  intro n
  induction n with
  | zero =>
    intro a h0 h1
    have := E.2.2.1 a h0 (by omega)
    simpa using this
  | succ n ih =>
    intro a h0 h1
    have x := ih a h0 (by push_cast at h1; omega)
    have y := E.2.2.1 (a + n + 1) (by omega) (by push_cast at h1; omega)
    push_cast
    rw [show a + ((n : Int) + 1) + 1 = a + n + 1 + 1 by omega]
    omega
theorem cd_lt {σ τ : ga_S} {f : Int} {N : Nat} (E : TOK σ τ f N) {a b r s : Int} (h0 : 0 ≤ a) (hab : a < b) (hb : b ≤ N) (hr : 0 ≤ r ∧ r ≤ 4) (hs : 0 ≤ s) : cd σ a r < cd σ b s := by
  have p := pl_lt E (b - a - 1).toNat a h0 (by omega)
  rw [show a + ((b - a - 1).toNat : Int) + 1 = b by omega] at p
  unfold cd
  omega
/-- the code of a name that must be new -/
def nwCd (σ : ga_S) (b : Bool) (hv mo a : Int) : Int := if b = true then (if hv < mo then 1000000 else cd σ a 0) else cd σ a 1
theorem nwCd_r {σ τ : ga_S} {f : Int} {N : Nat} (E : TOK σ τ f N) (b : Bool) (hv mo : Int) {a : Int} (ha : 0 ≤ a ∧ a ≤ N) : cd σ a 0 ≤ nwCd σ b hv mo a ∧ nwCd σ b hv mo a ≤ 1000000 := by
  have x := cd_r E ha (r := 0) (by omega)
  have y := cd_r E ha (r := 1) (by omega)
  have z : cd σ a 0 ≤ cd σ a 1 := by unfold cd; omega
  unfold nwCd
  split
  · split <;> omega
  · omega
theorem nwCd_1 {σ τ : ga_S} {f : Int} {N : Nat} (E : TOK σ τ f N) {b : Bool} {hv mo : Int} {a : Int} (ha : 0 ≤ a ∧ a ≤ N) (h : 1000000 ≤ nwCd σ b hv mo a) : b = true ∧ hv < mo := no_new h (cd_r E ha (by omega)).2 (cd_r E ha (by omega)).2
theorem ck_18 {σ τ : ga_S} {f : Int} {N : Nat} (E : E0 σ τ f N) (hf : σ fR_fault 0 0 = 0) (hm : τ fM_runs 0 0 ≤ 2600) (hs : σ fR_sort 0 0 = 18) (ht : τ fM_sort 0 0 = 18) (n0 : nn σ τ f 0 0) (r0 : rr σ τ f 0 1) (r1 : rr σ τ f 1 2) (ho : σ fR_runTo 0 0 ≤ σ fR_runFrom 0 1) {d : Nat} (hd : 7 ≤ d) (first : Int) : ckX σ τ (c_r_check d σ) (c_m_asked d τ first) (fun σ' _ => σ' fR_kind0 0 0 = dN σ (nN σ 0) 0 ∧ dN σ (nN σ 0) 0 ≠ -1 ∧ nB σ (wC σ 0) [] = true ∧ nB σ (wC σ 1) [wC σ 0] = true ∧ σ fW_adjectives 0 0 + 1 < 24) := by
  obtain ⟨d, rfl⟩ : ∃ e, d = e + 1 := ⟨d - 1, by omega⟩
  obtain ⟨K1, F1, O1, q1, S1, _⟩ := k0_ok hf N
  obtain ⟨M1, G1, Q1, p1, T1, _⟩ := a0_ok σ τ f N
  have R0 := RU_of E.1 n0 hm
  have R1 := RU_of E.1 r0 hm
  have R2 := RU_of E.1 r1 hm
  have wa := e0_a E
  have x1 : ∀ i, (k0 σ) fR_runFrom 0 i = σ fR_runFrom 0 i ∧ (k0 σ) fR_runTo 0 i = σ fR_runTo 0 i := fun i => ⟨by rw [k0_fr σ _ (by decide)], by rw [k0_fr σ _ (by decide)]⟩
  -- the component
  obtain ⟨σ2, a1, a2, a3, a4⟩ := k_need E K1 F1 R0.2.2.2 (d := d) (by omega) 0
  obtain ⟨σ3, e3⟩ : ∃ x, x = ga_up σ2 fR_kind0 0 0 (dN σ (nN σ 0) 0) := ⟨_, rfl⟩
  have f3 : fr [fR_kind0] σ2 σ3 := by rw [e3]; exact fr_u (by decide)
  have f13 : fr (fR_kind0 :: ndL) (k0 σ) σ3 := fr_trans (fr_sub a2 (by decide)) (fr_sub f3 (by decide))
  have O3 : nwO σ N σ3 := by unfold nwO; rw [f13 _ (by decide), f13 _ (by decide), f13 _ (by decide)]; exact O1
  have S3 : nwC σ σ3 = [] := by rw [← S1]; unfold nwC; rw [f13 _ (by decide), f13 _ (by decide), f13 _ (by decide)]
  have q3 : σ3 fR_newNames 0 0 = 0 := by rw [f13 _ (by decide)]; exact q1
  obtain ⟨σ4, b1, b2, b3, b4, b5, b6, b7⟩ := k_isNew E (KC_f a3 f3 (by decide)) (FT_f a4 f3 (by decide)) O3 (by omega) R1.2.2.2 (σ fW_adjectives 0 0) 24 (d := d) (by omega)
  rw [S3] at b4 b7
  obtain ⟨σ5, c1, c2, c3, c4, c5, c6, c7⟩ := k_isNew E b3 b4 b5 (by omega) R2.2.2.2 (σ fW_adjectives 0 0 + 1) 24 (d := d) (by omega)
  rw [b7] at c4
  have x2 : ∀ i, σ2 fR_runFrom 0 i = σ fR_runFrom 0 i ∧ σ2 fR_runTo 0 i = σ fR_runTo 0 i := fun i => ⟨by rw [a2 _ (by decide)]; exact (x1 i).1, by rw [a2 _ (by decide)]; exact (x1 i).2⟩
  have x4 : ∀ i, σ4 fR_runFrom 0 i = σ fR_runFrom 0 i ∧ σ4 fR_runTo 0 i = σ fR_runTo 0 i := fun i => ⟨by rw [b2 _ (by decide), f3 _ (by decide)]; exact (x2 i).1, by rw [b2 _ (by decide), f3 _ (by decide)]; exact (x2 i).2⟩
  have wk2 : σ2 fW_adjectives = σ fW_adjectives := a3.1 _ (by decide)
  have wk4 : σ4 fW_adjectives = σ fW_adjectives := b3.1 _ (by decide)
  have hC : c_r_check (d + 1) σ = some (0, σ5) := by
    rw [e_r_check, hs]
    iterate 18 rw [if_neg (by decide)]
    rw [if_pos rfl]
    show ((c_r_need d (k0 σ) _ _ _).bind _) = _
    rw [a1]
    simp only [Option.bind_some]
    rw [show ga_up σ2 fR_kind0 0 0 (dN σ (nmT σ (σ fR_nameFrom 0 0) (σ fR_nameTo 0 0)) 0) = σ3 from e3.symm, (x2 0).1, (x2 0).2, wk2, b1]
    simp only [Option.bind_some]
    rw [(x4 1).1, (x4 1).2, wk4, w32_ok (by have := wa.2.1; have := wa.1; omega), c1]
    rfl
  -- the model
  obtain ⟨τ2, m1, m2, m3, m4⟩ := m_kindOfRun E M1 G1 R0.2.2.2 R0.1 R0.2.1 R0.2.2.1 (d := d) (by omega)
  have Q2 : nwQ σ τ f N τ2 := by unfold nwQ; rw [m2 _ (by decide), m2 _ (by decide)]; exact Q1
  have T2 : nwM σ τ f τ2 = [] := by rw [← T1]; unfold nwM; rw [m2 _ (by decide), m2 _ (by decide)]
  have p2 : τ2 fM_news 0 0 = 0 := by rw [m2 _ (by decide)]; exact p1
  obtain ⟨τ3, n1, n2, n3, n4, n5, n6, n7⟩ := m_mustBeNew E m3 m4 Q2 (by omega) R1 (σ fW_adjectives 0 0) 24 (d := d) (by omega)
  rw [T2] at n4 n7
  have ad2 : τ2 fM_adjectives 0 0 = σ fW_adjectives 0 0 := by rw [m3 _ (by decide)]; exact wa.2.2.1
  have ad3 : τ3 fM_adjectives 0 0 = σ fW_adjectives 0 0 := by rw [n3 _ (by decide)]; exact wa.2.2.1
  have lenM : (nwM σ τ f τ3).length = (if nB σ (wC σ 0) [] = true then 1 else 0) := by
    rw [n7]
    show (if nB σ (wC σ 0) [] = true then [] ++ [wC σ 0] else []).length = _
    by_cases q : nB σ (wC σ 0) [] = true
    · rw [if_pos q, if_pos q]; rfl
    · rw [if_neg q, if_neg q]; rfl
  have nw3 : τ3 fM_news 0 0 = (if nB σ (wC σ 0) [] = true then 1 else 0) := by
    have l := lenM
    unfold nwM at l
    rw [List.length_map] at l
    have l2 := rg_len (n := τ3 fM_news 0 0) 0
    rw [if_pos n5.1] at l2
    by_cases q : nB σ (wC σ 0) [] = true
    · rw [if_pos q] at l ⊢; omega
    · rw [if_neg q] at l ⊢; omega
  obtain ⟨hv, ehv⟩ : ∃ x : Int, x = σ fW_adjectives 0 0 + (if nB σ (wC σ 0) [] = true then 1 else 0) := ⟨_, rfl⟩
  obtain ⟨τ4, o1, o2, o3, o4, o5, o6, o7⟩ := m_mustBeNew E n3 n4 n5 (by omega) R2 hv 24 (d := d) (by omega)
  have hM : c_m_asked (d + 1) τ first = some (0, τ4) := by
    rw [e_m_asked, ht]
    iterate 18 rw [if_neg (by decide)]
    rw [if_pos rfl]
    show ((c_m_kindOfRun d (a0 τ) _).bind _) = _
    rw [m1]
    simp only [Option.bind_some]
    rw [ad2, n1]
    simp only [Option.bind_some]
    rw [ad3, nw3]
    by_cases q : nB σ (wC σ 0) [] = true
    · rw [if_pos q] at ehv
      rw [if_pos q, if_pos (by decide), e_m_asked_445, w32_ok (by have := wa.2.1; have := wa.1; omega), ← ehv, o1]; rfl
    · rw [if_neg q] at ehv
      rw [if_neg q, if_neg (by decide), e_m_asked_445, w32_ok (by have := wa.2.1; have := wa.1; omega), ← ehv, o1]; rfl
  have t0 := frB_t R0.2.2.2
  have t1 := frB_t R1.2.2.2
  have t2 := frB_t R2.2.2.2
  have lt : cd σ (σ fR_runFrom 0 0) 1 < cd σ (σ fR_runFrom 0 1) 0 := cd_lt E.2.1 t1.1 (by have := r0.2.2.2.2.1; omega) t2.2 (by omega) (by omega)
  have same := sameN_s (sameN_0 σ) (wC σ 0)
  have eqc : min (min (min 1000000 (if dN σ (nN σ 0) 0 = -1 then cd σ (σ fR_nameFrom 0 0) 2 else 1000000)) (nwCd σ (nB σ (wC σ 0) []) (σ fW_adjectives 0 0) 24 (σ fR_runFrom 0 0))) (nwCd σ (nB σ (wC σ 1) (nwM σ τ f τ3)) hv 24 (σ fR_runFrom 0 1)) = min (min (min 1000000 (if dN σ (nN σ 0) 0 = -1 then cd σ (σ fR_nameFrom 0 0) 2 else 1000000)) (nwCd σ (nB σ (wC σ 0) []) (σ fW_adjectives 0 0) 24 (σ fR_runFrom 0 0))) (nwCd σ (nB σ (wC σ 1) ([] ++ [wC σ 0])) (σ fW_adjectives 0 0 + 1) 24 (σ fR_runFrom 0 1)) := by
    have e1 : nB σ (wC σ 1) (nwM σ τ f τ3) = nB σ (wC σ 1) ([] ++ [wC σ 0]) := by
      rw [n7]; exact (same (wC σ 1)).symm
    rw [e1]
    by_cases q : nB σ (wC σ 0) [] = true
    · rw [if_pos q] at ehv
      rw [ehv]
    · have l1 := (nwCd_r E.2.1 (nB σ (wC σ 1) ([] ++ [wC σ 0])) hv 24 t2).1
      have l2 := (nwCd_r E.2.1 (nB σ (wC σ 1) ([] ++ [wC σ 0])) (σ fW_adjectives 0 0 + 1) 24 t2).1
      have e2 : nwCd σ (nB σ (wC σ 0) []) (σ fW_adjectives 0 0) 24 (σ fR_runFrom 0 0) = cd σ (σ fR_runFrom 0 0) 1 := by
        unfold nwCd; rw [if_neg q]
      rw [e2]
      omega
  have o4' : GT τ4 (min (min (min 1000000 (if dN σ (nN σ 0) 0 = -1 then cd σ (σ fR_nameFrom 0 0) 2 else 1000000)) (nwCd σ (nB σ (wC σ 0) []) (σ fW_adjectives 0 0) 24 (σ fR_runFrom 0 0))) (nwCd σ (nB σ (wC σ 1) (nwM σ τ f τ3)) hv 24 (σ fR_runFrom 0 1))) := o4
  rw [eqc] at o4'
  refine ⟨σ5, τ4, _, hC, hM, c3, o3, c4, o4', (fr_trans (fr_sub (k0_fr σ) (by decide)) (fr_trans (fr_sub f13 (by decide)) (fr_trans (fr_sub b2 (by decide)) (fr_sub c2 (by decide))))), (fr_trans (fr_sub (a0_fr τ) (by decide)) (fr_trans (fr_sub m2 (by decide)) (fr_trans (fr_sub n2 (by decide)) (fr_sub o2 (by decide))))), fun z => ?_⟩
  have z1 := no_min rfl z (GT_le n4)
  have z2 := no_min rfl z1.1 (GT_le m4)
  have z3 := no_min rfl z2.1 (Int.le_refl _)
  have y1 := nwCd_1 E.2.1 t2 z1.2
  have y2 := nwCd_1 E.2.1 t1 z2.2
  refine ⟨?_, no_if z3.2 (cd_r E.2.1 t0 (by omega)).2, y2.1, y1.1, y1.2⟩
  rw [c2 _ (by decide), b2 _ (by decide), e3, up_eq]
theorem ck_8 {σ τ : ga_S} {f : Int} {N : Nat} (E : E0 σ τ f N) (hf : σ fR_fault 0 0 = 0) (hm : τ fM_runs 0 0 ≤ 2600) (hs : σ fR_sort 0 0 = 8) (ht : τ fM_sort 0 0 = 8) (r0 : rr σ τ f 0 0) (r1 : rr σ τ f 1 1) {d : Nat} (hd : 7 ≤ d) (first : Int) : ckX σ τ (c_r_check d σ) (c_m_asked d τ first) (fun σ' _ => σ' fR_kind0 0 0 = kdN σ (nR σ 0) ∧ σ' fR_object0 0 0 = tyN σ (nR σ 0) ∧ ¬ (kdN σ (nR σ 0) = -1 ∧ tyN σ (nR σ 0) = -1) ∧ nB σ (wC σ 1) [] = true) := by
  obtain ⟨d, rfl⟩ : ∃ e, d = e + 1 := ⟨d - 1, by omega⟩
  obtain ⟨K1, F1, O1, q1, S1, _⟩ := k0_ok hf N
  obtain ⟨M1, G1, Q1, p1, T1, _⟩ := a0_ok σ τ f N
  have R0 := RU_of E.1 r0 hm
  have R1 := RU_of E.1 r1 hm
  have t0 := frB_t R0.2.2.2
  have t1 := frB_t R1.2.2.2
  -- the component
  obtain ⟨σ2, a1, a2, a3⟩ := k_kindNamed E K1 R0.2.2.2 (d := d) (by omega)
  obtain ⟨σ3, e3⟩ : ∃ x, x = ga_up σ2 fR_kind0 0 0 (kdN σ (nR σ 0)) := ⟨_, rfl⟩
  have f3 : fr [fR_kind0] σ2 σ3 := by rw [e3]; exact fr_u (by decide)
  obtain ⟨σ4, b1, b2, b3⟩ := k_typeNamed E (KC_f a3 f3 (by decide)) R0.2.2.2 (d := d) (by omega)
  obtain ⟨σ5, e5⟩ : ∃ x, x = ga_up σ4 fR_object0 0 0 (tyN σ (nR σ 0)) := ⟨_, rfl⟩
  have f5 : fr [fR_object0] σ4 σ5 := by rw [e5]; exact fr_u (by decide)
  have f15 : fr (fR_object0 :: fR_kind0 :: spL) (k0 σ) σ5 := fr_trans (fr_sub a2 (by decide)) (fr_trans (fr_sub f3 (by decide)) (fr_trans (fr_sub b2 (by decide)) (fr_sub f5 (by decide))))
  have K5 := KC_f b3 f5 (by decide)
  have F5 : FT σ5 1000000 := FT_f F1 f15 (by decide)
  have nt : ∃ σ6, (if kdN σ (nR σ 0) = -1 ∧ tyN σ (nR σ 0) = -1 then (c_r_note d σ5 4 (σ fR_runFrom 0 0)).bind (fun q21 => r_check_424 d q21.2) else r_check_424 d σ5) = r_check_424 d σ6 ∧ fr ntL σ5 σ6 ∧ FT σ6 (min 1000000 (if kdN σ (nR σ 0) = -1 ∧ tyN σ (nR σ 0) = -1 then cd σ (σ fR_runFrom 0 0) 2 else 1000000)) := by
    by_cases q : kdN σ (nR σ 0) = -1 ∧ tyN σ (nR σ 0) = -1
    · obtain ⟨σ6, g1, g2, g3⟩ := k_note E.2.1 E.1.2.2.1 K5 F5 (t := σ fR_runFrom 0 0) (r := 2) (why := 4) t0 (by omega) (by decide) (d := d) (by omega)
      rw [if_pos q, if_pos q, g1]
      exact ⟨σ6, rfl, g2, g3⟩
    · rw [if_neg q, if_neg q]
      exact ⟨σ5, rfl, fr_refl _ _, F5⟩
  obtain ⟨σ6, g1, g2, g3⟩ := nt
  have f16 : fr (fR_object0 :: fR_kind0 :: ndL) (k0 σ) σ6 := fr_trans (fr_sub f15 (by decide)) (fr_sub g2 (by decide))
  have O6 : nwO σ N σ6 := by unfold nwO; rw [f16 _ (by decide), f16 _ (by decide), f16 _ (by decide)]; exact O1
  have S6 : nwC σ σ6 = [] := by rw [← S1]; unfold nwC; rw [f16 _ (by decide), f16 _ (by decide), f16 _ (by decide)]
  have q6 : σ6 fR_newNames 0 0 = 0 := by rw [f16 _ (by decide)]; exact q1
  obtain ⟨σ7, c1, c2, c3, c4, c5, c6, c7⟩ := k_isNew E (KC_f K5 g2 (by decide)) g3 O6 (by omega) R1.2.2.2 0 1 (d := d) (by omega)
  rw [S6] at c4
  have hC : c_r_check (d + 1) σ = some (0, σ7) := by
    have s424 : r_check_424 d σ6 = some (0, σ7) := by
      rw [e_r_check_424, f16 fR_runFrom (by decide), f16 fR_runTo (by decide), k0_fr σ fR_runFrom (by decide), k0_fr σ fR_runTo (by decide), c1]; rfl
    rw [e_r_check, hs]
    iterate 8 rw [if_neg (by decide)]
    rw [if_pos rfl]
    show ((c_r_kindNamed d (k0 σ) _ _).bind _) = _
    rw [a1]
    simp only [Option.bind_some]
    rw [show ga_up σ2 fR_kind0 0 0 (kdN σ (nmT σ (σ fR_runFrom 0 0) (σ fR_runTo 0 0))) = σ3 from e3.symm, a2 fR_runFrom (by decide), a2 fR_runTo (by decide), k0_fr σ fR_runFrom (by decide), k0_fr σ fR_runTo (by decide), b1]
    simp only [Option.bind_some]
    rw [show ga_up σ4 fR_object0 0 0 (tyN σ (nmT σ (σ fR_runFrom 0 0) (σ fR_runTo 0 0))) = σ5 from e5.symm, b2 fR_kind0 (by decide), b2 fR_runFrom (by decide), f3 fR_runFrom (by decide), a2 fR_runFrom (by decide), k0_fr σ fR_runFrom (by decide), show σ3 fR_kind0 0 0 = kdN σ (nR σ 0) by rw [e3, up_eq]]
    rw [s424] at g1
    show (if kdN σ (nR σ 0) = -1 then (if tyN σ (nR σ 0) = -1 then _ else _) else _) = _
    by_cases z1 : kdN σ (nR σ 0) = -1
    · by_cases z2 : tyN σ (nR σ 0) = -1
      · rw [if_pos ⟨z1, z2⟩] at g1
        rw [if_pos z1, if_pos z2]; exact g1
      · rw [if_neg (fun z => z2 z.2)] at g1
        rw [if_pos z1, if_neg z2]; exact g1
    · rw [if_neg (fun z => z1 z.1)] at g1
      rw [if_neg z1]; exact g1
  -- the model
  obtain ⟨τ3, n1, n2, n3, n4⟩ := m_needI E M1 G1 (kdN σ (nR σ 0) = -1 ∧ tyN σ (nR σ 0) = -1) t0 R0.2.1 (r := 2) (why := 4) (by omega) (by decide) (d := d) (by omega)
  have Q3 : nwQ σ τ f N τ3 := by unfold nwQ; rw [n2 _ (by decide), n2 _ (by decide)]; exact Q1
  have T3 : nwM σ τ f τ3 = [] := by rw [← T1]; unfold nwM; rw [n2 _ (by decide), n2 _ (by decide)]
  have p3 : τ3 fM_news 0 0 = 0 := by rw [n2 _ (by decide)]; exact p1
  obtain ⟨τ4, o1, o2, o3, o4, o5, o6, o7⟩ := m_mustBeNew E n3 n4 Q3 (by omega) R1 0 1 (d := d) (by omega)
  rw [T3] at o4
  have hM : c_m_asked (d + 1) τ first = some (0, τ4) := by
    have s214 : m_asked_214 d (a0 τ) (if kdN σ (nR σ 0) = -1 ∧ tyN σ (nR σ 0) = -1 then 0 else 1) = some (0, τ4) := by
      rw [e_m_asked_214, a0_fr τ _ (by decide), n1]
      simp only [Option.bind_some]
      rw [o1]; rfl
    rw [e_m_asked, ht]
    iterate 8 rw [if_neg (by decide)]
    rw [if_pos rfl]
    show ((c_m_kindOrPlural d (a0 τ) _).bind _) = _
    rw [m_kindOrPlural E M1 R0 (by omega)]
    simp only [Option.bind_some]
    show (if kdN σ (nR σ 0) = -1 then _ else _) = _
    by_cases z1 : kdN σ (nR σ 0) = -1
    · rw [if_pos z1, m_typeOrPlural E M1 R0 (by omega)]
      simp only [Option.bind_some]
      show (if tyN σ (nR σ 0) = -1 then _ else _) = _
      by_cases z2 : tyN σ (nR σ 0) = -1
      · rw [if_pos ⟨z1, z2⟩] at s214
        rw [if_pos z2]; exact s214
      · rw [if_neg (fun z => z2 z.2)] at s214
        rw [if_neg z2, e_m_asked_209]; exact s214
    · rw [if_neg (fun z => z1 z.1)] at s214
      rw [if_neg z1, e_m_asked_209]; exact s214
  refine ⟨σ7, τ4, _, hC, hM, c3, o3, c4, o4, (fr_trans (fr_sub (k0_fr σ) (by decide)) (fr_trans (fr_sub f16 (by decide)) (fr_sub c2 (by decide)))), (fr_trans (fr_sub (a0_fr τ) (by decide)) (fr_trans (fr_sub n2 (by decide)) (fr_sub o2 (by decide)))), fun z => ?_⟩
  have z1 := no_min rfl z (GT_le n4)
  have z2 := no_min rfl z1.1 (Int.le_refl _)
  refine ⟨?_, ?_, no_if z2.2 (cd_r E.2.1 t0 (by omega)).2, (nwCd_1 E.2.1 t1 z1.2).1⟩
  · rw [c2 _ (by decide), g2 _ (by decide), f5 _ (by decide), b2 _ (by decide), e3, up_eq]
  · rw [c2 _ (by decide), g2 _ (by decide), e5, up_eq]

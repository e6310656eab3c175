/-! brackets: what the model says of them where nothing is written -/
theorem inTh_no {σ0 : ga_S} {k : Int → Int} {nm : Int → Int → List Int} {nk i j n : Int} (h0 : i ≤ j) (h1 : j < n) (k1 : k j ≠ 0) (k2 : k j ≠ 62) (k3 : ¬ (9 ≤ k j ∧ k j ≤ 12)) : inTh σ0 k nm nk i n = -1 := by
  unfold inTh
  by_cases z : i < n ∧ k (n - 1) = 62
  · rw [if_pos z]
    by_cases y : (n - i = 1 ∨ (n - i = 2 ∧ k i = 11)) ∧ nk ≠ -1
    · exfalso
      rcases y.1 with v | v
      · have : j = n - 1 := by omega
        rw [this] at k2
        exact k2 z.2
      · have : j = n - 1 ∨ j = i := by omega
        rcases this with u | u
        · rw [u] at k2; exact k2 z.2
        · rw [u] at k3; omega
    · rw [if_neg y]
  · rw [if_neg z]
    have ar : i + arK k i n ≤ j := by
      unfold arK
      by_cases y : i < n ∧ 9 ≤ k i ∧ k i ≤ 12
      · rw [if_pos y]
        have : j ≠ i := fun v => by rw [v] at k3; exact k3 y.2
        omega
      · rw [if_neg y]; omega
    have fr0 : frK k (i + arK k i n) n = false := by
      refine b_false fun v => ?_
      unfold frK at v
      exact k1 (of_decide_eq_true (rg_allI.mp v j ar h1))
    rw [if_neg (by rw [fr0]; decide)]
theorem brV_no {σ0 : ga_S} {k : Int → Int} {nm : Int → Int → List Int} {nk j n : Int} (h0 : 0 ≤ j) (h1 : j < n) (k1 : k j ≠ 0) (k2 : k j < 9) : brV σ0 k nm nk n = false := by
  have so := sk_all (f := fun q => decide (k q ≠ 16)) (n := n) 0
  have eo : sk (fun q => decide (k q ≠ 16)) n 0 = ofK k n := rfl
  rw [eo] at so
  unfold brV
  by_cases o : ofK k n = n
  · rw [if_pos o, inTh_no h0 h1 k1 (by omega) (by omega)]
    rfl
  · rw [if_neg o]
    by_cases o2 : ofK k n < 2 ∨ k 0 ≠ 11 ∨ frK k 1 (ofK k n) = false
    · rw [if_pos o2]
    · have k0 : k 0 = 11 := Classical.byContradiction fun v => o2 (Or.inr (Or.inl v))
      have f1 : frK k 1 (ofK k n) = true := by
        cases e : frK k 1 (ofK k n) with
        | true => rfl
        | false => exact absurd (Or.inr (Or.inr e)) o2
      have ol := so.2.1 (by omega)
      have ok16 : k (ofK k n) = 16 := by
        have := so.2.2.1 (by omega)
        exact Classical.byContradiction fun v => absurd (of_decide_eq_false this) (fun u => u v)
      have jg : ofK k n + 1 ≤ j := by
        refine Classical.byContradiction fun v => ?_
        by_cases e0 : j = 0
        · rw [e0] at k2; omega
        · by_cases e1 : j = ofK k n
          · rw [e1] at k2; omega
          · unfold frK at f1
            exact k1 (of_decide_eq_true (rg_allI.mp f1 j (by omega) (by omega)))
      rw [if_neg o2, inTh_no jg h1 k1 (by omega) (by omega)]
      rfl
section
variable {σ0 τ0 : ga_S} {f : Int} {N : Nat} {B : Int → Int} {c a : Int} {M : Nat}
theorem m_saysInside {τ : ga_S} (E : E0 σ0 τ0 f N) (K : KM τ0 τ) (hk : rKeys τ) (w : WI B c a M τ) {nk : Int} (hY : τ fM_isDry 0 0 = 1) (hN : τ fM_nounKind 0 0 = nk) (kN : kO σ0 nk) {d : Nat} (hd : 4 ≤ d) : c_m_saysInside d τ = some (b2i (brV σ0 (kx B c a) (nx B c a) nk M), τ) := by
  obtain ⟨d, rfl⟩ : ∃ e, d = e + 1 := ⟨d - 1, by omega⟩
  have R := RD_m (KM_lex K) E.2.2.1
  obtain ⟨k, ek⟩ : ∃ z, z = kx B c a := ⟨_, rfl⟩
  obtain ⟨nm, enm⟩ : ∃ z, z = nx B c a := ⟨_, rfl⟩
  have M64 := w.2.1
  have hM := w.1
  have k0 : ∀ q, 0 ≤ k q := fun q => by rw [ek]; exact kx_0 _ _ _ _
  have key : ∀ q : Int, 0 ≤ q → q < M → c_m_keyOf d τ (τ fM_inside 0 q) = some (mK (k q), τ) := fun q x y => by rw [ek]; exact m_key hk w x y (by omega)
  have thg : ∀ i : Int, 0 ≤ i → i ≤ M → c_m_insideThing d τ i = some (mT (inTh σ0 k nm nk i M), τ) := fun i x y => by rw [ek, enm]; exact m_insideThing R hk w hY hN x y (by omega)
  have tr : ∀ i j, inTh σ0 k nm nk i j = -1 ∨ thO σ0 (-1) nk (inTh σ0 k nm nk i j) := fun i j => inTh_r E k nm nk i j
  rw [← ek, ← enm]
  -- the first word from 1 on that isn't free
  obtain ⟨V, eV⟩ : ∃ z, z = sk (fun q => decide (k q = 0)) (M : Int) 1 := ⟨_, rfl⟩
  have sv := sk_all (f := fun q => decide (k q = 0)) (n := (M : Int)) 1
  rw [← eV] at sv
  have l2 : ∀ q, 0 ≤ q → m_saysInside_2 d τ q = m_saysInside_30 d τ (sk (fun q => decide (k q = 0)) (M : Int) q) := by
    refine pos_ind (M : Int) fun q ih x0 => ?_
    rw [e_m_saysInside_2, hM]
    by_cases y : q < (M : Int)
    · rw [if_pos y, ck_ok _ (by omega), key q x0 y]
      simp only [Option.bind_some]
      by_cases z : k q = 0
      · rw [if_pos ((mK_3 (k0 _)).mpr z), w32_ok (by omega), ih (q + 1) (by omega) y (by omega), sk_s (f := fun q => decide (k q = 0)) y (decide_eq_true z)]
      · rw [if_neg (fun v => z ((mK_3 (k0 _)).mp v)), sk_x (f := fun q => decide (k q = 0)) y (decide_eq_false z)]
    · rw [if_neg y, sk_n (by omega)]
  have so := sk_all (f := fun q => decide (k q ≠ 16)) (n := (M : Int)) 0
  have eo : sk (fun q => decide (k q ≠ 16)) (M : Int) 0 = ofK k M := rfl
  rw [eo] at so
  have ol := so.2.1 (by omega)
  have plain : m_saysInside_84 d τ V = some (b2i (decide (inTh σ0 k nm nk 0 M ≠ -1)), τ) := by
    rw [e_m_saysInside_84, e_m_saysInside_85, if_pos rfl, e_m_saysInside_98, thg 0 (Int.le_refl _) (by omega)]
    simp only [Option.bind_some]
    have m9 := mT_9 (tr 0 M)
    by_cases z : inTh σ0 k nm nk 0 M = -1
    · rw [if_pos (m9.mpr z), decide_eq_false (fun v => v z)]; rfl
    · have go : ∀ s0, m_saysInside_124 d τ V 0 (mT (inTh σ0 k nm nk 0 M)) s0 = some (1, τ) := by
        intro s0
        rw [e_m_saysInside_124, if_pos rfl, hY, if_neg (by decide)]
      rw [if_neg (fun v => z (m9.mp v)), go, go, decide_eq_true (p := inTh σ0 k nm nk 0 M ≠ -1) z]
      split <;> rfl
  rw [e_m_saysInside, l2 1 (by decide), ← eV, e_m_saysInside_30, hM]
  by_cases isOf : 0 < (M : Int) ∧ k 0 = 11 ∧ 1 < V ∧ V < M ∧ k V = 16
  · obtain ⟨i1, i2, i3, i4, i5⟩ := isOf
    rw [if_pos i1, key 0 (Int.le_refl _) i1]
    simp only [Option.bind_some]
    rw [if_pos ((mK_11 _).mpr i2), if_pos i3, hM, if_pos i4, ck_ok _ (by omega), key V (by omega) i4]
    simp only [Option.bind_some]
    have eVo : ofK k M = V := by
      have k16 : ∀ q, 0 ≤ q → q < V → k q ≠ 16 := by
        intro q x y
        by_cases e : q = 0
        · rw [e, i2]; decide
        · have := of_decide_eq_true (sv.2.2.2 q (by omega) y)
          omega
      refine Int.le_antisymm ?_ ?_
      · refine Classical.byContradiction fun v => ?_
        exact absurd i5 (of_decide_eq_true (so.2.2.2 V (by omega) (by omega)))
      · refine Classical.byContradiction fun v => ?_
        have := so.2.2.1 (by omega)
        exact absurd (decide_eq_true (k16 (ofK k M) so.1 (by omega))) (by rw [this]; decide)
    have f1 : frK k 1 V = true := by
      unfold frK
      exact rg_allI.mpr (fun q x y => sv.2.2.2 q x y)
    rw [if_pos ((mK_16 _).mpr i5), e_m_saysInside_85, if_neg (by decide), w32_ok (by omega), e_m_saysInside_98, thg (V + 1) (by omega) (by omega)]
    simp only [Option.bind_some]
    have m9 := mT_9 (tr (V + 1) M)
    have bv : brV σ0 k nm nk M = (decide (inTh σ0 k nm nk (V + 1) M ≠ -1) && decide (dN σ0 (nm 1 V) 5 ≠ -1) && own σ0 (kdT σ0 (-1) nk (inTh σ0 k nm nk (V + 1) M)) (dN σ0 (nm 1 V) 5)) := by
      unfold brV
      rw [eVo, if_neg (by omega), if_neg (fun v => by rcases v with v | v | v; omega; exact v i2; rw [f1] at v; cases v)]
    rw [bv]
    by_cases z : inTh σ0 k nm nk (V + 1) M = -1
    · rw [if_pos (m9.mpr z), decide_eq_false (p := inTh σ0 k nm nk (V + 1) M ≠ -1) (fun v => v z), Bool.false_and, Bool.false_and]; rfl
    · rw [if_neg (fun v => z (m9.mp v)), decide_eq_true (p := inTh σ0 k nm nk (V + 1) M ≠ -1) z, Bool.true_and]
      have tv := (tr (V + 1) M).resolve_left z
      have kr := kdT_r E (ik := -1) (nk := nk) (Or.inl rfl) kN tv
      obtain ⟨k', g1, g2, g3⟩ := m_foundS R hk w (i := 1) (n := V - 1) (by decide) (by omega) (by omega) (s := 5) (ms := 7) (Or.inr ⟨rfl, rfl⟩) (d := d) (by omega)
      have ef : fnV σ0 k nm 1 V 5 = dN σ0 (nm 1 V) 5 := by unfold fnV; rw [if_pos f1]
      rw [show (1 : Int) + (V - 1) = V by omega, ← ek, ← enm, ef] at g2 g3
      obtain ⟨P, eP⟩ : ∃ z, z = dN σ0 (nm 1 V) 5 := ⟨_, rfl⟩
      have pr := e0_dN E (nm 1 V) 5
      have m5 : mxN σ0 5 = σ0 fW_properties 0 0 := rfl
      rw [← eP] at g2 g3 pr ⊢
      obtain ⟨T, eT⟩ : ∃ z, z = inTh σ0 k nm nk (V + 1) M := ⟨_, rfl⟩
      rw [← eT] at tv kr ⊢
      have fin : ∀ s0, m_saysInside_124 d τ V 1 (mT T) s0 = some (b2i (decide (P ≠ -1) && own σ0 (kdT σ0 (-1) nk T) P), τ) := by
        intro s0
        have q189 : ∀ p, p = P → m_saysInside_189 d τ (mT T) s0 p = some (b2i (decide (P ≠ -1) && own σ0 (kdT σ0 (-1) nk T) P), τ) := by
          intro p ep
          obtain ⟨ik, eik⟩ : ∃ z, z = τ fM_itKind 0 0 := ⟨_, rfl⟩
          have tv' : thO σ0 ik nk T := by
            rcases tv with u | u | u
            · exact absurd rfl u.2
            · exact Or.inr (Or.inl u)
            · exact Or.inr (Or.inr u)
          have ekd : kdT σ0 ik nk T = kdT σ0 (-1) nk T := by
            have v2 : T ≠ -2 := by
              rcases tv with u | u | u
              · exact absurd rfl u.2
              · omega
              · omega
            unfold kdT
            rw [if_neg v2, if_neg v2]
          rw [e_m_saysInside_189, hY, if_neg (by decide), m_kindOfThing E K eik.symm hN tv' (by omega), ekd]
          simp only [Option.bind_some]
          rw [e_m_saysInside_213, ep]
          by_cases y : P = -1
          · rw [if_pos y, decide_eq_false (p := P ≠ -1) (fun v => v y), Bool.false_and]; rfl
          · rw [if_neg y, m_own E K kr (by omega) (by omega), decide_eq_true (p := P ≠ -1) y, Bool.true_and]
            simp only [Option.bind_some]
            cases own σ0 (kdT σ0 (-1) nk T) P with
            | false => rw [if_pos b2i_f]; rfl
            | true => rw [if_neg b2i_n, hY, if_neg (by decide)]; rfl
        have q188 : P = -1 → m_saysInside_188 d τ (mT T) s0 = some (b2i (decide (P ≠ -1) && own σ0 (kdT σ0 (-1) nk T) P), τ) := by
          intro y
          rw [e_m_saysInside_188, q189 (-1) y.symm]
        rw [e_m_saysInside_124, if_neg (by decide), w32_ok (by omega), g1]
        simp only [Option.bind_some]
        by_cases y : P = -1
        · have t := g2 y
          by_cases y1 : k' = -1
          · rw [if_pos y1, q188 y]
          · have t' := t.resolve_left y1
            rw [if_neg y1, ck_ok _ (by omega), if_neg t'.2.2, q188 y]
        · have t := g3 y
          rw [if_neg (by omega), ck_ok _ (by omega), if_pos t.2.2.2.1, ck_ok _ (by omega), q189 _ t.2.2.2.2]
      rw [fin, fin]
      split <;> rfl
  · -- no of
    have bv : brV σ0 k nm nk M = decide (inTh σ0 k nm nk 0 M ≠ -1) := by
      unfold brV
      by_cases o : ofK k M = M
      · rw [if_pos o]
      · have k16 : k (ofK k M) = 16 := by
          have := so.2.2.1 (by omega)
          exact Classical.byContradiction fun v => absurd (of_decide_eq_false this) (fun u => u v)
        rw [if_neg o, inTh_no so.1 (by omega) (by omega) (by omega) (by omega)]
        by_cases o2 : ofK k M < 2 ∨ k 0 ≠ 11 ∨ frK k 1 (ofK k M) = false
        · rw [if_pos o2]; rfl
        · exfalso
          have k00 : k 0 = 11 := Classical.byContradiction fun v => o2 (Or.inr (Or.inl v))
          have f1 : frK k 1 (ofK k M) = true := by
            cases e : frK k 1 (ofK k M) with
            | true => rfl
            | false => exact absurd (Or.inr (Or.inr e)) o2
          have o1 : ¬ ofK k M < 2 := fun v => o2 (Or.inl v)
          unfold frK at f1
          have fq := rg_allI.mp f1
          have vl := sv.2.1 (by omega)
          have eq : V = ofK k M := by
            refine Int.le_antisymm ?_ ?_
            · refine Classical.byContradiction fun v => ?_
              have := of_decide_eq_true (sv.2.2.2 (ofK k M) (by omega) (by omega))
              omega
            · refine Classical.byContradiction fun v => ?_
              have h1 := fq V sv.1 (by omega)
              have h2 := sv.2.2.1 (by omega)
              rw [h1] at h2; cases h2
          exact isOf ⟨by omega, k00, by omega, by omega, by rw [eq]; exact k16⟩
    rw [bv]
    by_cases i1 : 0 < (M : Int)
    · rw [if_pos i1, key 0 (Int.le_refl _) i1]
      simp only [Option.bind_some]
      by_cases i2 : k 0 = 11
      · rw [if_pos ((mK_11 _).mpr i2)]
        by_cases i3 : 1 < V
        · rw [if_pos i3, hM]
          by_cases i4 : V < M
          · rw [if_pos i4, ck_ok _ (by omega), key V (by omega) i4]
            simp only [Option.bind_some]
            rw [if_neg (fun v => isOf ⟨i1, i2, i3, i4, (mK_16 _).mp v⟩), plain]
          · rw [if_neg i4, plain]
        · rw [if_neg i3, plain]
      · rw [if_neg (fun v => i2 ((mK_11 _).mp v)), plain]
    · rw [if_neg i1, plain]
end

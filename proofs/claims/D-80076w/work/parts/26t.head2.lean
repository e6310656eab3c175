/-! the head of a rule, model -/
def roL : List Nat := [fM_ruleAction, fM_ruleObject, fM_ruleKind, fM_ruleAdjectives]
/-- the other rows of the model's rules stay -/
def roK (l : Int) (τ τ' : ga_S) : Prop := (∀ F, F ∈ roL → ∀ k, k ≠ l → τ' F 0 k = τ F 0 k) ∧ ∀ k, k < 6 * l ∨ 6 * l + 6 ≤ k → τ' fM_ruleAdjective 0 k = τ fM_ruleAdjective 0 k
theorem roK_t {l : Int} {τ τ1 τ2 : ga_S} (a : roK l τ τ1) (b : roK l τ1 τ2) : roK l τ τ2 := ⟨fun F h k hk => (b.1 F h k hk).trans (a.1 F h k hk), fun k hk => (b.2 k hk).trans (a.2 k hk)⟩
theorem roK_f {l : Int} {τ τ' : ga_S} {L : List Nat} (h : fr L τ τ') (hL : (fM_ruleAdjective :: roL).all (fun F => !(L.contains F)) = true) : roK l τ τ' := ⟨fun F hF k _ => by rw [fr_no h hL (List.mem_cons_of_mem _ hF)], fun k _ => by rw [fr_no h hL (List.mem_cons_self ..)]⟩
theorem roK_u (l : Int) (τ : ga_S) (F : Nat) (hF : F ≠ fM_ruleAdjective) (v : Int) : roK l τ (ga_up τ F 0 l v) := ⟨fun F' _ k hk => by
  by_cases c : F' = F
  · rw [c, up_i hk]
  · rw [up_F c], fun k _ => by rw [up_F (fun z => hF z.symm)]⟩
def heN : List Nat := [fM_ruleAction, fM_ruleObject, fM_ruleKind, fM_ruleAdjectives, fM_ruleAdjective, fM_nounKind, fM_tried, fM_triedObject, fM_bestFault, fM_bestPlace, fM_bestRank] ++ ptM
section
variable {σ0 τ0 : ga_S} {f : Int} {N : Nat}
theorem dsA_len (E : E0 σ0 τ0 f N) (pl df : Bool) (al a b : Int) : ((dsA σ0 pl df al a b).length : Int) ≤ 1000000000 := by
  unfold dsA
  by_cases c : 6 < b - a
  · rw [if_pos c]; simp
  · have e : rg 1 4 = [1, 2, 3] := by rw [rg_s (by decide), rg_s (by decide), rg_s (by decide), rg_n (by decide)]; rfl
    have a1 := dsM_len E pl df al a b 1
    have a2 := dsM_len E pl df al a b 2
    have a3 := dsM_len E pl df al a b 3
    rw [if_neg c, e]
    simp only [List.flatMap_cons, List.flatMap_nil, List.length_append, List.length_nil]
    push_cast
    omega
theorem m_head {τ : ga_S} (E : E0 σ0 τ0 f N) (K : KM τ0 τ) {c : Int} (hF : GT τ c) (two : Bool) {x0 y0 x1 y1 r l : Int} (hs : τ0 fM_sort 0 0 ≠ 6) (hl : 0 ≤ l ∧ l < 24) (hr : τ0 fM_actingRun 0 0 = r) (R0 : RU σ0 τ0 f N r x0 y0) (h0 : x0 < y0) (h1 : two = false → τ0 fM_actingOther 0 0 = -1) (h2 : two = true → 0 ≤ τ0 fM_actingOther 0 0 ∧ RU σ0 τ0 f N (τ0 fM_actingOther 0 0) x1 y1) {d : Nat} (hd : 13 ≤ d) : ∃ τ' nk, c_m_actingMeant d τ l = some (0, τ') ∧ KM τ0 τ' ∧ fr heN τ τ' ∧ roK l τ τ' ∧ GT τ' (min c (heC σ0 two x0 y0 x1 y1)) ∧ τ' fM_nounKind 0 0 = nk ∧ kO σ0 nk ∧ (heC σ0 two x0 y0 x1 y1 = 1000000 → heM σ0 two x0 y0 x1 y1 τ' l nk) := by
  obtain ⟨d, rfl⟩ : ∃ e, d = e + 1 := ⟨d - 1, by omega⟩
  have le := GT_le hF
  have t0 := frB_t R0.2.2.2
  have c2 := cd_r E.2.1 t0 (r := 2) (by omega)
  have wc := e0_c E
  have wc2 := wc.2.1
  have wo := e0_o E
  have wo2 := wo.2.1
  obtain ⟨τ1, e1⟩ : ∃ z, z = ga_up (ga_up (ga_up (ga_up (ga_up τ fM_ruleAction 0 l (-1)) fM_ruleObject 0 l (-1)) fM_ruleKind 0 l (-1)) fM_ruleAdjectives 0 l 0) fM_nounKind 0 0 (-1) := ⟨_, rfl⟩
  have f1 : fr [fM_ruleAction, fM_ruleObject, fM_ruleKind, fM_ruleAdjectives, fM_nounKind] τ τ1 := by rw [e1]; exact fr_trans (fr_trans (fr_trans (fr_trans (fr_u (by decide)) (fr_u (by decide))) (fr_u (by decide))) (fr_u (by decide))) (fr_u (by decide))
  have k1 : roK l τ τ1 := by
    rw [e1]
    exact roK_t (roK_t (roK_t (roK_t (roK_u l _ _ (by decide) _) (roK_u l _ _ (by decide) _)) (roK_u l _ _ (by decide) _)) (roK_u l _ _ (by decide) _)) (roK_f (L := [fM_nounKind]) (fr_u (by decide)) (by decide))
  have K1 := KM_f K f1 (by decide)
  have F1 := GT_f hF f1 (by decide)
  have nk1 : τ1 fM_nounKind 0 0 = -1 := by rw [e1, up_eq]
  have ad1 : τ1 fM_ruleAdjectives 0 l = 0 := by rw [e1, up_F (by decide), up_eq]
  have kd1 : τ1 fM_ruleKind 0 l = -1 := by rw [e1, up_F (by decide), up_F (by decide), up_eq]
  have ob1 : τ1 fM_ruleObject 0 l = -1 := by rw [e1, up_F (by decide), up_F (by decide), up_F (by decide), up_eq]
  have K' : ∀ G, G ∉ ckM → τ G = τ0 G := K
  rw [e_m_actingMeant, ck_ok _ hl, ck_ok _ hl, ck_ok _ hl, ck_ok _ hl, K' fM_sort (by decide), if_neg hs, K' fM_actingOther (by decide), K' fM_actingRun (by decide), hr, ← e1]
  cases two with
  | false =>
    rw [if_pos (h1 rfl)]
    have eC : heC σ0 false x0 y0 x1 y1 = cnC σ0 x0 (acN σ0 true x0 y0) := by unfold heC; rw [if_neg (by decide)]
    rw [eC]
    obtain ⟨τ2, a1, a2, a3, a4, a5⟩ := m_actings E K1 true R0 h0 (d := d) (by omega)
    have a1' : c_m_actings d τ1 r 0 = some (acN σ0 true x0 y0, τ2) := a1
    obtain ⟨n, en⟩ : ∃ z, z = acN σ0 true x0 y0 := ⟨_, rfl⟩
    have n0 : 0 ≤ n := by
      rw [en]; unfold acN
      have : 0 ≤ b2i (acW σ0 true x0 y0) := by cases acW σ0 true x0 y0 <;> decide
      omega
    rw [← en] at a1' a4 a5 ⊢
    obtain ⟨τ3, τ4, y1', y2, y3, y4, y5, y6⟩ := m_two E a2 (GT_f F1 a3 (by decide)) (a := x0) (t := f + x0) (n := n) t0 rfl n0 (d := d) (by omega)
    have f14 : fr (fM_tried :: fM_triedObject :: ntM) τ1 τ4 := fr_trans (fr_sub a3 (by decide)) (fr_sub y3 (by decide))
    have k14 : roK l τ τ4 := roK_t k1 (roK_f f14 (by decide))
    -- what comes behind the notes
    obtain ⟨τ5, nk, z1, z2, z3, z4, z5, z6, z7⟩ : ∃ τ5 nk, (if 0 < n then ga_ck l 24 (ga_ck l 24 (if (τ4 fM_triedObject 0 0) = (-1) then ga_ck (τ4 fM_tried 0 0) 12 ((p_max d (ga_up (ga_up τ4 fM_ruleAction 0 l (τ4 fM_tried 0 0)) fM_ruleObject 0 l (τ4 fM_triedObject 0 0)) (-1) (τ4 fM_actionKind 0 (τ4 fM_tried 0 0))).bind fun q9 => m_actingMeant_163 d q9.2 q9.1) else ga_ck (τ4 fM_triedObject 0 0) 24 (m_actingMeant_163 d (ga_up (ga_up τ4 fM_ruleAction 0 l (τ4 fM_tried 0 0)) fM_ruleObject 0 l (τ4 fM_triedObject 0 0)) (τ4 fM_kindOf 0 (τ4 fM_triedObject 0 0))))) else some (0, τ4)) = some (0, τ5) ∧ KM τ0 τ5 ∧ fr [fM_ruleAction, fM_ruleObject, fM_nounKind] τ4 τ5 ∧ roK l τ4 τ5 ∧ τ5 fM_nounKind 0 0 = nk ∧ kO σ0 nk ∧ (n = 1 → heM σ0 false x0 y0 x1 y1 τ5 l nk) := by
      by_cases z : 0 < n
      · have ar := a5 z
        have tr : τ4 fM_tried 0 0 = τ2 fM_tried 0 0 ∧ τ4 fM_triedObject 0 0 = τ2 fM_triedObject 0 0 := by rw [y3 _ (by decide), y3 _ (by decide)]; exact ⟨rfl, rfl⟩
        obtain ⟨x, ex⟩ : ∃ z, z = τ2 fM_tried 0 0 := ⟨_, rfl⟩
        obtain ⟨y, ey⟩ : ∃ z, z = τ2 fM_triedObject 0 0 := ⟨_, rfl⟩
        rw [← ex, ← ey] at ar a4 tr
        rw [tr.1, tr.2]
        have ak := wc.2.2.2 x ar.1.1 ar.1.2
        obtain ⟨τ5, e5⟩ : ∃ z, z = ga_up (ga_up τ4 fM_ruleAction 0 l x) fM_ruleObject 0 l y := ⟨_, rfl⟩
        have f5 : fr [fM_ruleAction, fM_ruleObject] τ4 τ5 := by rw [e5]; exact fr_trans (fr_u (by decide)) (fr_u (by decide))
        have k5 : roK l τ4 τ5 := by rw [e5]; exact roK_t (roK_u l _ _ (by decide) _) (roK_u l _ _ (by decide) _)
        obtain ⟨τ6, e6⟩ : ∃ z, z = ga_up τ5 fM_nounKind 0 0 (nkO σ0 x y) := ⟨_, rfl⟩
        have f6 : fr [fM_nounKind] τ5 τ6 := by rw [e6]; exact fr_u (by decide)
        have s163 : m_actingMeant_163 d τ5 (nkO σ0 x y) = some (0, τ6) := by rw [e_m_actingMeant_163, e6]
        have f46 : fr [fM_ruleAction, fM_ruleObject, fM_nounKind] τ4 τ6 := fr_trans (fr_sub f5 (by decide)) (fr_sub f6 (by decide))
        refine ⟨τ6, nkO σ0 x y, ?_, KM_f y4 f46 (by decide), f46, roK_t k5 (roK_f f6 (by decide)), by rw [e6, up_eq], nkO_k E ar.1 ar.2, fun w => Or.inl ⟨rfl, ?_, ?_, ?_, ?_⟩⟩
        · rw [if_pos z, ck_ok _ hl, ck_ok _ hl, ← e5, y4 fM_actionKind (by decide), ak.2.2, y4 fM_kindOf (by decide)]
          unfold nkO at s163
          by_cases u : y = -1
          · rw [if_pos u] at s163
            rw [if_pos u, ck_ok _ (by omega), s_p_max (by omega)]
            simp only [Option.bind_some]
            by_cases v : σ0 fW_actionKinds 0 x < 0
            · rw [if_pos v] at s163
              rw [if_neg (by omega), s163]
            · rw [if_neg v] at s163
              rw [if_pos (by omega), s163]
          · have ob := wo.2.2.2 y (by omega) (by omega)
            rw [if_neg u] at s163
            rw [if_neg u, ck_ok _ (by omega), ob.2.2, s163]
        · have e7 : τ6 fM_ruleAction 0 l = x ∧ τ6 fM_ruleObject 0 l = y := by
            rw [f6 _ (by decide), f6 _ (by decide), e5]
            exact ⟨by rw [up_F (by decide), up_eq], by rw [up_eq]⟩
          rw [e7.1, e7.2]
          exact a4 w
        · rw [f46 _ (by decide), f14 _ (by decide)]; exact kd1
        · rw [f46 _ (by decide), f14 _ (by decide)]; exact ad1
        · have e7 : τ6 fM_ruleAction 0 l = x ∧ τ6 fM_ruleObject 0 l = y := by
            rw [f6 _ (by decide), f6 _ (by decide), e5]
            exact ⟨by rw [up_F (by decide), up_eq], by rw [up_eq]⟩
          rw [e7.1, e7.2]
      · rw [if_neg z]
        exact ⟨τ4, -1, rfl, y4, fr_refl _ _, roK_f (fr_refl [] τ4) (by decide), by rw [f14 _ (by decide)]; exact nk1, Or.inl rfl, fun w => by omega⟩
    have s94 : m_actingMeant_94 d τ3 l r n (if n < 2 then 1 else 0) = some (0, τ5) := by
      rw [e_m_actingMeant_94, ck_ok _ R0.1, y6 fM_runFrom (by decide), a2 fM_runFrom (by decide), R0.2.1, y2]
      simp only [Option.bind_some]
      exact z1
    have s73 : m_actingMeant_73 d τ2 l r n (if 0 < n then 1 else 0) = some (0, τ5) := by
      rw [e_m_actingMeant_73, ck_ok _ R0.1, a2 fM_runFrom (by decide), R0.2.1, y1']
      simp only [Option.bind_some]
      rw [if_app (m_actingMeant_94 d τ3 l r n), s94]
    rw [a1']
    simp only [Option.bind_some]
    rw [if_app (m_actingMeant_73 d τ2 l r n), s73]
    refine ⟨τ5, nk, rfl, z2, fr_trans (fr_sub f1 (by decide)) (fr_trans (fr_sub f14 (by decide)) (fr_sub z3 (by decide))), roK_t k14 z4, GT_f y5 z3 (by decide), z5, z6, fun w => ?_⟩
    exact z7 (cnC_u E t0 (by omega))
  | true =>
    obtain ⟨ho, R1⟩ := h2 rfl
    have t1 := frB_t R1.2.2.2
    have c21 := cd_r E.2.1 t1 (r := 2) (by omega)
    obtain ⟨s, es⟩ : ∃ z, z = τ0 fM_actingOther 0 0 := ⟨_, rfl⟩
    rw [← es] at ho R1 ⊢
    have xr := acX_r E x0 y0
    have eX : dN σ0 (nmT σ0 x0 y0) 8 = acX σ0 x0 y0 := rfl
    have s1 : τ1 fM_actingOther 0 0 = s := by rw [K1 _ (by decide)]; exact es.symm
    obtain ⟨τ2, a1, a2, a3, a4⟩ := m_needI E K1 F1 (acX σ0 x0 y0 = -1) t0 rfl (r := 2) (why := 4) (by omega) (by decide) (d := d) (by omega)
    rw [if_neg (by omega), m_meansRun E K1 R0.2.2.2 R0.1 R0.2.1 R0.2.2.1 (by omega), mN_dN (s := 8) (by omega), eX]
    simp only [Option.bind_some]
    rw [s1, if_app (m_actingMeant_192 d τ1 l r (acX σ0 x0 y0) s), e_m_actingMeant_192, ck_ok _ R0.1, K1 fM_runFrom (by decide), R0.2.1, a1]
    simp only [Option.bind_some]
    have nk2 : τ2 fM_nounKind 0 0 = -1 := by rw [a2 _ (by decide)]; exact nk1
    by_cases z : acX σ0 x0 y0 = -1
    · have eC : heC σ0 true x0 y0 x1 y1 = cd σ0 x0 2 := by unfold heC; rw [if_pos rfl, if_pos z]
      rw [if_pos z] at a4
      rw [if_pos z, eC]
      exact ⟨τ2, -1, rfl, a3, fr_trans (fr_sub f1 (by decide)) (fr_sub a2 (by decide)), roK_t k1 (roK_f a2 (by decide)), a4, nk2, Or.inl rfl, fun w => by omega⟩
    · rw [if_neg z, Int.min_eq_left le] at a4
      have ek : σ0 fW_actionKinds 0 (acX σ0 x0 y0) = hdKd σ0 x0 y0 := rfl
      have ak := wc.2.2.2 (acX σ0 x0 y0) (by omega) (by omega)
      rw [ek] at ak
      obtain ⟨τ3, b1, b2, b3, b4⟩ := m_needI E a3 a4 (hdKd σ0 x0 y0 < 0) t1 rfl (r := 2) (why := 4) (by omega) (by decide) (d := d) (by omega)
      have f13 : fr ntM τ1 τ3 := fr_trans a2 b2
      rw [if_neg z, ck_ok _ (by omega), a3 fM_actionKind (by decide), ak.2.2, if_app (m_actingMeant_223 d τ2 l (acX σ0 x0 y0) s), e_m_actingMeant_223, ck_ok _ R1.1, a3 fM_runFrom (by decide), R1.2.1, b1]
      simp only [Option.bind_some]
      rw [ck_ok _ (by omega), b3 fM_actionKind (by decide), ak.2.2]
      by_cases w : hdKd σ0 x0 y0 < 0
      · have eC : heC σ0 true x0 y0 x1 y1 = cd σ0 x1 2 := by unfold heC; rw [if_pos rfl, if_neg z, if_pos w]
        rw [if_pos w] at b4
        rw [if_pos w, eC]
        exact ⟨τ3, -1, rfl, b3, fr_trans (fr_sub f1 (by decide)) (fr_sub f13 (by decide)), roK_t k1 (roK_f f13 (by decide)), b4, by rw [b2 _ (by decide)]; exact nk2, Or.inl rfl, fun v => by omega⟩
      · rw [if_neg w, Int.min_eq_left le] at b4
        have eC : heC σ0 true x0 y0 x1 y1 = cnC σ0 x1 (whN σ0 (hdKd σ0 x0 y0) x1 y1) := by unfold heC; rw [if_pos rfl, if_neg z, if_neg w]
        obtain ⟨kind, ekd⟩ : ∃ z, z = hdKd σ0 x0 y0 := ⟨_, rfl⟩
        have r2 := e0_dN E (nmT σ0 x1 y1) 2
        have m2 : mxN σ0 2 = σ0 fW_objects 0 0 := rfl
        have orr := whO_r E kind x1 y1
        obtain ⟨O, eO⟩ : ∃ z, z = whO σ0 kind x1 y1 := ⟨_, rfl⟩
        obtain ⟨Ds, eDs⟩ : ∃ z, z = whD σ0 kind x1 y1 := ⟨_, rfl⟩
        rw [← eO] at orr
        have O24 : O ≠ -1 → (0 ≤ O ∧ O < 24) ∧ O < σ0 fW_objects 0 0 := fun z => by
          have := orr.resolve_left z
          exact ⟨⟨this.1, this.2.2.1⟩, this.2.1⟩
        have aX12 : 0 ≤ acX σ0 x0 y0 ∧ acX σ0 x0 y0 < 12 := by omega
        -- up to the description
        have st : ((c_m_meansRun d τ3 s 4).bind fun q6 => if q6.1 = (-1) then m_actingMeant_284 d q6.2 l (acX σ0 x0 y0) s else ga_ck q6.1 24 (ga_ck (acX σ0 x0 y0) 12 ((c_m_isBelow d q6.2 (q6.2 fM_kindOf 0 q6.1) (q6.2 fM_actionKind 0 (acX σ0 x0 y0))).bind fun q7 => if q7.1 = 0 then m_actingMeant_284 d q7.2 l (acX σ0 x0 y0) s else m_actingMeant_285 d q7.2 l (acX σ0 x0 y0) s q6.1))) = m_actingMeant_285 d τ3 l (acX σ0 x0 y0) s O := by
          rw [m_meansRun E b3 R1.2.2.2 R1.1 R1.2.1 R1.2.2.1 (by omega), mN_dN (s := 2) (by omega)]
          simp only [Option.bind_some]
          rw [eO]
          unfold whO
          by_cases u : dN σ0 (nmT σ0 x1 y1) 2 = -1
          · rw [if_pos u, e_m_actingMeant_284, if_neg (fun v => v.1 u)]
          · rw [if_neg u, ck_ok _ (by omega), ck_ok _ (by omega), m_isKind E b3 (by omega) _ (by omega), b3 fM_actionKind (by decide), ak.2.2, ← ekd]
            simp only [Option.bind_some]
            cases q : isB (σ0 fW_parents 0) (σ0 fW_kindOf 0 (dN σ0 (nmT σ0 x1 y1) 2)) kind with
            | false => rw [if_pos b2i_f, e_m_actingMeant_284, if_neg (fun v => by cases v.2)]
            | true => rw [if_neg b2i_n, if_pos ⟨u, rfl⟩]
        obtain ⟨τ4, e4⟩ : ∃ z, z = ga_up τ3 fM_readings 0 0 0 := ⟨_, rfl⟩
        have f4 : fr [fM_readings] τ3 τ4 := by rw [e4]; exact fr_u (by decide)
        obtain ⟨τ5, d1, d2⟩ := m_describe E R1.2.2.2 (t := f + x1) (n := y1 - x1) rfl rfl false true (al := kind) (KM_f b3 f4 (by decide)) (by rw [e4, up_eq]) (d := d) (by omega)
        have eDs' : dsA σ0 false true kind x1 y1 = Ds := eDs.symm
        rw [eDs'] at d2
        have r5 : τ5 fM_readings 0 0 = (Ds.length : Int) := by rw [d2.2.2.1, e4, up_eq, Int.zero_add]
        have len : (Ds.length : Int) ≤ 1000000000 := by
          rw [← eDs']; exact dsA_len E false true kind x1 y1
        obtain ⟨fi, efi⟩ : ∃ z : Int, z = if O = -1 then 0 else 1 := ⟨_, rfl⟩
        have fi01 : 0 ≤ fi ∧ fi ≤ 1 := by rw [efi]; split <;> omega
        have eN : whN σ0 kind x1 y1 = fi + (Ds.length : Int) := by unfold whN; rw [← eO, ← eDs, efi]
        obtain ⟨τ6, e6⟩ : ∃ z, z = ga_up τ5 fM_readings 0 0 ((Ds.length : Int) + fi) := ⟨_, rfl⟩
        have f6 : fr [fM_readings] τ5 τ6 := by rw [e6]; exact fr_u (by decide)
        have r6 : τ6 fM_readings 0 0 = whN σ0 kind x1 y1 := by rw [e6, up_eq, eN]; omega
        obtain ⟨τ7, g1, g2, g3, g4⟩ := m_oneReading E (KM_f d2.2.1 f6 (by decide)) (GT_f (GT_f (GT_f b4 f4 (by decide)) d2.1 (by decide)) f6 (by decide)) t1 (t := f + x1) rfl (by rw [r6, eN]; omega) (d := d) (by omega)
        rw [r6] at g4
        have f57 : fr (fM_readings :: ntM) τ5 τ7 := fr_trans (fr_sub f6 (by decide)) (fr_sub g2 (by decide))
        have f17 : fr (ptM ++ ntM) τ1 τ7 := fr_trans (fr_sub f13 (by decide)) (fr_trans (fr_sub f4 (by decide)) (fr_trans (fr_sub d2.1 (by decide)) (fr_sub f57 (by decide))))
        have k17 : roK l τ τ7 := roK_t k1 (roK_f f17 (by decide))
        obtain ⟨dsc, edsc⟩ : ∃ z : Int, z = if 0 < (Ds.length : Int) then 1 else 0 := ⟨_, rfl⟩
        obtain ⟨nk, enk⟩ : ∃ z : Int, z = if O = -1 then (if dsc = 0 then -1 else τ7 fM_readKind 0 0) else σ0 fW_kindOf 0 O := ⟨_, rfl⟩
        obtain ⟨τ8, e8⟩ : ∃ z, z = ga_up (ga_up τ7 fM_ruleAction 0 l (acX σ0 x0 y0)) fM_ruleObject 0 l O := ⟨_, rfl⟩
        have f8 : fr [fM_ruleAction, fM_ruleObject] τ7 τ8 := by rw [e8]; exact fr_trans (fr_u (by decide)) (fr_u (by decide))
        have k8 : roK l τ7 τ8 := by rw [e8]; exact roK_t (roK_u l _ _ (by decide) _) (roK_u l _ _ (by decide) _)
        have K8 := KM_f g3 f8 (by decide)
        -- the kind of a description
        have dk : ∀ P R, Ds = P :: R → τ7 fM_readKind 0 0 = P.1 ∧ τ7 fM_readCount 0 0 = (P.2.length : Int) ∧ (∀ i : Nat, i < P.2.length → τ7 fM_readAdjective 0 i = P.2.getD i 0) ∧ (0 ≤ P.1 ∧ P.1 < σ0 fW_kinds 0 0) ∧ P.2.length ≤ 5 := by
          intro P R hP
          have u := d2.2.2.2.2 (by rw [e4, up_eq]) P R hP
          have pk := dsA_k E (P := P) (show P ∈ dsA σ0 false true kind x1 y1 by rw [eDs', hP]; exact List.mem_cons_self ..)
          rw [f57 _ (by decide), f57 _ (by decide), f57 _ (by decide)]
          exact ⟨u.1, u.2.1, u.2.2, pk.1, pk.2.2⟩
        have nkK : kO σ0 nk := by
          rw [enk]
          by_cases u : O = -1
          · rw [if_pos u]
            by_cases v : dsc = 0
            · rw [if_pos v]; exact Or.inl rfl
            · rw [if_neg v]
              cases hD : Ds with
              | nil => rw [hD] at edsc; simp at edsc; exact absurd edsc v
              | cons P R => have := dk P R hD; rw [this.1]; exact Or.inr this.2.2.2.1
          · rw [if_neg u]
            have := wo.2.2.2 O (by omega) (by omega)
            exact Or.inr (by omega)
        obtain ⟨τ9, e9⟩ : ∃ z, z = ga_up τ8 fM_nounKind 0 0 nk := ⟨_, rfl⟩
        have f9 : fr [fM_nounKind] τ8 τ9 := by rw [e9]; exact fr_u (by decide)
        have K9 := KM_f K8 f9 (by decide)
        -- the end
        obtain ⟨τa, z1, z2, z3, z4, z5⟩ : ∃ τa, m_actingMeant_408 d τ8 l O dsc nk = some (0, τa) ∧ fr [fM_nounKind, fM_ruleKind, fM_ruleAdjectives, fM_ruleAdjective] τ8 τa ∧ roK l τ8 τa ∧ τa fM_nounKind 0 0 = nk ∧ (whN σ0 kind x1 y1 = 1 → (O ≠ -1 → τa fM_ruleKind 0 l = -1 ∧ τa fM_ruleAdjectives 0 l = 0) ∧ (O = -1 → ∃ P, Ds = [P] ∧ τa fM_ruleKind 0 l = P.1 ∧ τa fM_ruleAdjectives 0 l = (P.2.length : Int) ∧ (∀ i : Nat, i < P.2.length → τa fM_ruleAdjective 0 (6 * l + i) = P.2.getD i 0) ∧ nk = P.1)) := by
          have kd9 : τ9 fM_ruleKind 0 l = -1 := by rw [f9 _ (by decide), f8 _ (by decide), f17 _ (by decide)]; exact kd1
          have ad9 : τ9 fM_ruleAdjectives 0 l = 0 := by rw [f9 _ (by decide), f8 _ (by decide), f17 _ (by decide)]; exact ad1
          rw [e_m_actingMeant_408]
          by_cases v : dsc = 0
          · rw [if_pos v, ← e9]
            refine ⟨τ9, rfl, fr_sub f9 (by decide), roK_f f9 (by decide), by rw [e9, up_eq], fun n1 => ⟨fun _ => ⟨kd9, ad9⟩, fun u => ?_⟩⟩
            rw [eN, efi, if_pos u] at n1
            rw [if_pos (by omega)] at edsc
            omega
          · rw [if_neg v]
            by_cases u : O = -1
            · obtain ⟨τb, eb⟩ : ∃ z, z = ga_up (ga_up τ9 fM_ruleKind 0 l (τ8 fM_readKind 0 0)) fM_ruleAdjectives 0 l (τ8 fM_readCount 0 0) := ⟨_, rfl⟩
              have fb : fr [fM_ruleKind, fM_ruleAdjectives] τ9 τb := by rw [eb]; exact fr_trans (fr_u (by decide)) (fr_u (by decide))
              have kb : roK l τ9 τb := by rw [eb]; exact roK_t (roK_u l _ _ (by decide) _) (roK_u l _ _ (by decide) _)
              obtain ⟨τc, ecc⟩ : ∃ z, z = am_copy τb fM_readAdjective 0 0 fM_ruleAdjective 0 (6 * l) 6 := ⟨_, rfl⟩
              have fc : fr [fM_ruleAdjective] τb τc := by rw [ecc]; exact am_copy_fr _ _ _ _ _ _ _ _
              have kc : roK l τb τc := by
                refine ⟨fun F hF k _ => by rw [fc F (fun y => by rw [List.mem_singleton] at y; subst y; exact absurd hF (by decide))], fun k hk => ?_⟩
                rw [ecc]
                unfold am_copy
                rw [if_neg (by omega)]
              rw [if_pos u, ck_ok _ hl, ck_ok _ hl, ← e9, ← eb, w32_ok (by omega), s_cpy_ru (by omega) _ (by omega), ← ecc]
              simp only [Option.bind_some]
              refine ⟨τc, rfl, fr_trans (fr_sub f9 (by decide)) (fr_trans (fr_sub fb (by decide)) (fr_sub fc (by decide))), roK_t (roK_f f9 (by decide)) (roK_t kb kc), by rw [fc _ (by decide), fb _ (by decide), e9, up_eq], fun n1 => ⟨fun y => absurd u y, fun _ => ?_⟩⟩
              rw [eN, efi, if_pos u] at n1
              obtain ⟨P, hP⟩ := List.length_eq_one_iff.mp (show Ds.length = 1 by omega)
              obtain ⟨p1, p2, p3, p4, p5⟩ := dk P [] hP
              refine ⟨P, hP, ?_, ?_, fun i hi => ?_, ?_⟩
              · rw [fc _ (by decide), eb, up_F (by decide), up_eq, f8 _ (by decide)]; exact p1
              · rw [fc _ (by decide), eb, up_eq, f8 _ (by decide)]; exact p2
              · rw [ecc, am_copy_at _ _ _ _ _ _ _ _ (by omega), fb _ (by decide), f9 _ (by decide), f8 _ (by decide), show 6 * l + (i : Int) - 6 * l + 0 = (i : Int) by omega]
                exact p3 i hi
              · rw [enk, if_pos u, if_neg v]; exact p1
            · rw [if_neg u, ← e9]
              exact ⟨τ9, rfl, fr_sub f9 (by decide), roK_f f9 (by decide), by rw [e9, up_eq], fun _ => ⟨fun _ => ⟨kd9, ad9⟩, fun y => absurd y u⟩⟩
        have s348 : m_actingMeant_348 d τ5 l (acX σ0 x0 y0) s O dsc fi (Ds.length : Int) = some (0, τa) := by
          rw [e_m_actingMeant_348, ck_ok _ R1.1, w32_ok (by omega), ← e6, d2.2.1 fM_runFrom (by decide), R1.2.1, g1]
          simp only [Option.bind_some]
          rw [ck_ok _ hl, ck_ok _ hl, ← e8, g3 fM_kindOf (by decide)]
          by_cases u : O = -1
          · rw [if_pos u] at enk ⊢
            by_cases v : dsc = 0
            · rw [if_pos v] at enk ⊢
              rw [← enk]; exact z1
            · rw [if_neg v] at enk ⊢
              rw [← enk]; exact z1
          · rw [if_neg u] at enk ⊢
            rw [ck_ok _ (O24 u).1, (wo.2.2.2 O (O24 u).1.1 (O24 u).2).2.2, ← enk]; exact z1
        have s330 : m_actingMeant_330 d τ5 l (acX σ0 x0 y0) s O dsc = some (0, τa) := by
          rw [e_m_actingMeant_330, r5]
          by_cases u : O = -1
          · rw [if_pos u] at efi ⊢
            rw [efi] at s348; exact s348
          · rw [if_neg u] at efi ⊢
            rw [efi] at s348; exact s348
        have d1' : c_m_describe d τ4 (f + x1) (y1 - x1) 0 1 kind = some (0, τ5) := d1
        have s285 : m_actingMeant_285 d τ3 l (acX σ0 x0 y0) s O = some (0, τa) := by
          rw [e_m_actingMeant_285, ck_ok _ R1.1, ck_ok _ R1.1, ck_ok _ aX12, b3 fM_runFrom (by decide), b3 fM_runSize (by decide), R1.2.1, R1.2.2.1, b3 fM_actionKind (by decide), ak.2.2, ← ekd, ← e4, d1']
          simp only [Option.bind_some]
          rw [r5]
          by_cases u : 0 < (Ds.length : Int)
          · rw [if_pos u] at edsc ⊢
            rw [edsc] at s330; exact s330
          · rw [if_neg u] at edsc ⊢
            rw [edsc] at s330; exact s330
        rw [if_neg w, st, s285, eC, ← ekd]
        refine ⟨τa, nk, rfl, KM_f K8 z2 (by decide), fr_trans (fr_sub f1 (by decide)) (fr_trans (fr_sub f17 (by decide)) (fr_trans (fr_sub f8 (by decide)) (fr_sub z2 (by decide)))), roK_t k17 (roK_t k8 z3), GT_f (GT_f g4 f8 (by decide)) z2 (by decide), z4, nkK, fun v => ?_⟩
        have n1 := cnC_u E t1 (show 1000000 ≤ cnC σ0 x1 (whN σ0 kind x1 y1) by omega)
        have zz := z5 n1
        have act : τa fM_ruleAction 0 l = acX σ0 x0 y0 := by rw [z2 _ (by decide), e8, up_F (by decide), up_eq]
        have obj : τa fM_ruleObject 0 l = O := by rw [z2 _ (by decide), e8, up_eq]
        refine Or.inr ⟨rfl, act, z, by omega, ?_⟩
        rw [← ekd, ← eO, ← eDs]
        by_cases u : O = -1
        · exact Or.inr ⟨u, by rw [obj]; exact u, zz.2 u⟩
        · have q := zz.1 u
          rw [if_neg u] at enk
          exact Or.inl ⟨u, obj, q.1, q.2, enk⟩
end

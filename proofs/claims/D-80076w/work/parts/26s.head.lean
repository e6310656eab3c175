/-! the head of a rule -/
def nkO (σ0 : ga_S) (A O : Int) : Int := if O = -1 then (if σ0 fW_actionKinds 0 A < 0 then -1 else σ0 fW_actionKinds 0 A) else σ0 fW_kindOf 0 O
def hdKd (σ0 : ga_S) (x0 y0 : Int) : Int := σ0 fW_actionKinds 0 (acX σ0 x0 y0)
/-- the code of a head: of one run, or of two -/
def heC (σ0 : ga_S) (two : Bool) (x0 y0 x1 y1 : Int) : Int := if two = true then (if acX σ0 x0 y0 = -1 then cd σ0 x0 2 else if hdKd σ0 x0 y0 < 0 then cd σ0 x1 2 else cnC σ0 x1 (whN σ0 (hdKd σ0 x0 y0) x1 y1)) else cnC σ0 x0 (acN σ0 true x0 y0)
/-- what a good head leaves, component -/
def heQ (σ0 : ga_S) (two : Bool) (x0 y0 x1 y1 : Int) (σ : ga_S) (dr nk : Int) : Prop :=
  (two = false ∧ ac1 σ0 true x0 y0 (σ fQ_action dr 0) (σ fQ_object dr 0) ∧ σ fQ_kind dr 0 = -1 ∧ σ fQ_adjectives dr 0 = 0 ∧ nk = nkO σ0 (σ fQ_action dr 0) (σ fQ_object dr 0)) ∨
  (two = true ∧ σ fQ_action dr 0 = acX σ0 x0 y0 ∧ acX σ0 x0 y0 ≠ -1 ∧ 0 ≤ hdKd σ0 x0 y0 ∧
    ((whO σ0 (hdKd σ0 x0 y0) x1 y1 ≠ -1 ∧ σ fQ_object dr 0 = whO σ0 (hdKd σ0 x0 y0) x1 y1 ∧ σ fQ_kind dr 0 = -1 ∧ σ fQ_adjectives dr 0 = 0 ∧ nk = σ0 fW_kindOf 0 (whO σ0 (hdKd σ0 x0 y0) x1 y1)) ∨
     (whO σ0 (hdKd σ0 x0 y0) x1 y1 = -1 ∧ σ fQ_object dr 0 = -1 ∧ ∃ P, whD σ0 (hdKd σ0 x0 y0) x1 y1 = [P] ∧ σ fQ_kind dr 0 = P.1 ∧ σ fQ_adjectives dr 0 = (P.2.length : Int) ∧ (∀ i : Nat, i < P.2.length → rdR (σ fQ_which dr i) (σ fQ_values dr i) (P.2.getD i 0)) ∧ nk = P.1)))
def heM (σ0 : ga_S) (two : Bool) (x0 y0 x1 y1 : Int) (τ : ga_S) (l nk : Int) : Prop :=
  (two = false ∧ ac1 σ0 true x0 y0 (τ fM_ruleAction 0 l) (τ fM_ruleObject 0 l) ∧ τ fM_ruleKind 0 l = -1 ∧ τ fM_ruleAdjectives 0 l = 0 ∧ nk = nkO σ0 (τ fM_ruleAction 0 l) (τ fM_ruleObject 0 l)) ∨
  (two = true ∧ τ fM_ruleAction 0 l = acX σ0 x0 y0 ∧ acX σ0 x0 y0 ≠ -1 ∧ 0 ≤ hdKd σ0 x0 y0 ∧
    ((whO σ0 (hdKd σ0 x0 y0) x1 y1 ≠ -1 ∧ τ fM_ruleObject 0 l = whO σ0 (hdKd σ0 x0 y0) x1 y1 ∧ τ fM_ruleKind 0 l = -1 ∧ τ fM_ruleAdjectives 0 l = 0 ∧ nk = σ0 fW_kindOf 0 (whO σ0 (hdKd σ0 x0 y0) x1 y1)) ∨
     (whO σ0 (hdKd σ0 x0 y0) x1 y1 = -1 ∧ τ fM_ruleObject 0 l = -1 ∧ ∃ P, whD σ0 (hdKd σ0 x0 y0) x1 y1 = [P] ∧ τ fM_ruleKind 0 l = P.1 ∧ τ fM_ruleAdjectives 0 l = (P.2.length : Int) ∧ (∀ i : Nat, i < P.2.length → τ fM_ruleAdjective 0 (6 * l + i) = P.2.getD i 0) ∧ nk = P.1)))
def heF : List Nat := [fQ_action, fQ_object, fQ_kind, fQ_adjectives, fQ_which, fQ_values, fR_nounKind, fR_fault, fR_where, fR_rank, fR_actionFound, fR_objectFound, fD_size, fD_spelled] ++ dsF
section
variable {σ0 τ0 : ga_S} {f : Int} {N : Nat}
theorem nkO_k (E : E0 σ0 τ0 f N) {A O : Int} (hA : 0 ≤ A ∧ A < σ0 fW_actions 0 0) (hO : O = -1 ∨ (0 ≤ O ∧ O < σ0 fW_objects 0 0)) : kO σ0 (nkO σ0 A O) := by
  unfold nkO kO
  have a := (e0_c E).2.2.2 A hA.1 hA.2
  by_cases z : O = -1
  · rw [if_pos z]
    by_cases y : σ0 fW_actionKinds 0 A < 0
    · rw [if_pos y]; exact Or.inl rfl
    · rw [if_neg y]; exact Or.inr (by omega)
  · rw [if_neg z]
    have o := (e0_o E).2.2.2 O (by omega) (by omega)
    exact Or.inr (by omega)
theorem ac1_r (E : E0 σ0 τ0 f N) {rl : Bool} {a b x y : Int} (h : ac1 σ0 rl a b x y) : (0 ≤ x ∧ x < σ0 fW_actions 0 0) ∧ (y = -1 ∨ (0 ≤ y ∧ y < σ0 fW_objects 0 0 ∧ 0 ≤ σ0 fW_actionKinds 0 x ∧ (rl = true → isB (σ0 fW_parents 0) (σ0 fW_kindOf 0 y) (σ0 fW_actionKinds 0 x) = true))) ∧ (rl = false → y = -1 → σ0 fW_actionKinds 0 x = -1) := by
  rcases h with ⟨w, e1, e2⟩ | ⟨w, m, hm, e1, e2⟩
  · unfold acW at w
    simp only [Bool.and_eq_true, decide_eq_true_eq, Bool.or_eq_true] at w
    have r := acX_r E a b
    have := w.1
    refine ⟨by rw [e1]; omega, Or.inl e2, fun z _ => ?_⟩
    rcases w.2 with q | q
    · rw [z] at q; cases q
    · rw [e1]; exact q
  · have mem : m ∈ acL σ0 rl a b (a + 1) := by rw [hm]; exact List.mem_singleton.mpr rfl
    unfold acL at mem
    have mB := (List.mem_filter.mp mem).2
    unfold acB at mB
    simp only [Bool.and_eq_true, decide_eq_true_eq, Bool.or_eq_true, Bool.not_eq_true'] at mB
    obtain ⟨⟨⟨b1, b2⟩, b3⟩, b4⟩ := mB
    have r1 := acX_r E a m
    have r2 := acY_r E m b
    refine ⟨by rw [e1]; omega, Or.inr ⟨by rw [e2]; omega, by rw [e2]; omega, by rw [e1]; exact b2, fun z => ?_⟩, fun _ z => by rw [e2] at z; exact absurd z b3⟩
    rcases b4 with q | q
    · rw [z] at q; cases q
    · rw [e1, e2]; exact q
theorem k_head {σ : ga_S} (E : E0 σ0 τ0 f N) (K : KC σ0 σ) {c : Int} (hF : FT σ c) (two : Bool) {x0 y0 x1 y1 : Int} (hr : σ fR_runs 0 0 = if two = true then 2 else 1) (hB0 : frB σ0 N x0 y0) (h0 : x0 < y0) (e0 : σ fR_runFrom 0 0 = x0 ∧ σ fR_runTo 0 0 = y0) (hB1 : two = true → frB σ0 N x1 y1 ∧ σ fR_runFrom 0 1 = x1 ∧ σ fR_runTo 0 1 = y1) (hd0 : 0 ≤ σ0 fR_draft 0 0) (hru : σ fR_rule 0 0 = σ0 fR_draft 0 0) (hq : σ fQ_object (σ0 fR_draft 0 0) 0 = -1 ∧ σ fQ_kind (σ0 fR_draft 0 0) 0 = -1 ∧ σ fQ_adjectives (σ0 fR_draft 0 0) 0 = 0) (hnk : σ fR_nounKind 0 0 = -1) {d : Nat} (hd : 14 ≤ d) : ∃ σ' nk, c_r_checkActing d σ = some (0, σ') ∧ KC σ0 σ' ∧ fr heF σ σ' ∧ FT σ' (min c (heC σ0 two x0 y0 x1 y1)) ∧ σ' fR_nounKind 0 0 = nk ∧ kO σ0 nk ∧ (heC σ0 two x0 y0 x1 y1 = 1000000 → heQ σ0 two x0 y0 x1 y1 σ' (σ0 fR_draft 0 0) nk) := by
  obtain ⟨d, rfl⟩ : ∃ e, d = e + 1 := ⟨d - 1, by omega⟩
  have le := FT_le hF
  have t0 := frB_t hB0
  have c2 := cd_r E.2.1 t0 (r := 2) (by omega)
  have wc := e0_c E
  have wc2 := wc.2.1
  have wo2 := (e0_o E).2.1
  obtain ⟨dr, edr⟩ : ∃ k, k = σ0 fR_draft 0 0 := ⟨_, rfl⟩
  rw [← edr] at hru hd0 hq ⊢
  -- the last row
  have last : ∀ (σ1 : ga_S) (v : Int), KC σ0 σ1 → σ1 fR_rule 0 0 = dr → ∃ σ', r_checkActing_184 d σ1 v = some (0, σ') ∧ fr [fQ_action] σ1 σ' ∧ KC σ0 σ' ∧ σ' fQ_action dr 0 = v := by
    intro σ1 v K1 h1
    have f2 : fr [fQ_action] σ1 (ga_up σ1 fQ_action dr 0 v) := fr_u (by decide)
    rw [e_r_checkActing_184, h1, nn_ok _ hd0]
    exact ⟨_, rfl, f2, KC_q K1 f2 (by decide) (by rw [← edr]; exact qkp_u _ _ _ _ _), up_eq ..⟩
  rw [e_r_checkActing, hr, e0.1, e0.2]
  cases two with
  | false =>
    rw [if_neg (show ¬ (1 : Int) < (if false = true then 2 else 1) by decide)]
    have eC : heC σ0 false x0 y0 x1 y1 = cnC σ0 x0 (acN σ0 true x0 y0) := by unfold heC; rw [if_neg (by decide)]
    rw [eC]
    obtain ⟨σ1, a1, a2, a3, a4⟩ := k_acting E K true hB0 h0 (d := d) (by omega)
    have a1' : c_r_acting d σ x0 y0 1 = some (acN σ0 true x0 y0, σ1) := a1
    have F1 := FT_f hF a3 (by decide)
    have ru1 : σ1 fR_rule 0 0 = dr := by rw [a3 _ (by decide)]; exact hru
    rw [a1']
    simp only [Option.bind_some]
    by_cases n1 : acN σ0 true x0 y0 = 1
    · have A := a4 n1
      have Ar := ac1_r E A
      obtain ⟨x, ex⟩ : ∃ z, z = σ1 fR_actionFound 0 0 := ⟨_, rfl⟩
      obtain ⟨y, ey⟩ : ∃ z, z = σ1 fR_objectFound 0 0 := ⟨_, rfl⟩
      rw [← ex, ← ey] at A Ar ⊢
      have cn : cnC σ0 x0 (acN σ0 true x0 y0) = 1000000 := by rw [n1]; unfold cnC; rw [if_pos rfl]
      obtain ⟨σ2, e2⟩ : ∃ z, z = ga_up σ1 fQ_object dr 0 y := ⟨_, rfl⟩
      have f2 : fr [fQ_object] σ1 σ2 := by rw [e2]; exact fr_u (by decide)
      have K2 : KC σ0 σ2 := KC_q a2 f2 (by decide) (by rw [← edr, e2]; exact qkp_u _ _ _ _ _)
      obtain ⟨σ3, e3⟩ : ∃ z, z = ga_up σ2 fR_nounKind 0 0 (nkO σ0 x y) := ⟨_, rfl⟩
      have f3 : fr [fR_nounKind] σ2 σ3 := by rw [e3]; exact fr_u (by decide)
      obtain ⟨σ4, g1, g2, g3, g4⟩ := last σ3 x (KC_f K2 f3 (by decide)) (by rw [f3 _ (by decide), f2 _ (by decide)]; exact ru1)
      have s181 : r_checkActing_181 d σ2 x (nkO σ0 x y) = some (0, σ4) := by rw [e_r_checkActing_181, ← e3, g1]
      have run : ga_nn dr (if y = -1 then ga_ck x 12 (if σ1 fW_actionKinds 0 x < 0 then r_checkActing_181 d (ga_up σ1 fQ_object dr 0 y) x (-1) else ga_ck x 12 (r_checkActing_181 d (ga_up σ1 fQ_object dr 0 y) x (σ1 fW_actionKinds 0 x))) else ga_ck y 24 (r_checkActing_181 d (ga_up σ1 fQ_object dr 0 y) x (σ1 fW_kindOf 0 y))) = some (0, σ4) := by
        rw [nn_ok _ hd0, ← e2, a2.1 fW_actionKinds (by decide), a2.1 fW_kindOf (by decide)]
        unfold nkO at s181
        by_cases z : y = -1
        · rw [if_pos z] at s181
          rw [if_pos z, ck_ok _ (by omega)]
          by_cases w : σ0 fW_actionKinds 0 x < 0
          · rw [if_pos w] at s181
            rw [if_pos w, s181]
          · rw [if_neg w] at s181
            rw [if_neg w, ck_ok _ (by omega), s181]
        · rw [if_neg z] at s181
          rw [if_neg z, ck_ok _ (by omega), s181]
      rw [if_pos n1, ru1, run, cn, Int.min_eq_left le]
      refine ⟨σ4, nkO σ0 x y, rfl, g3, fr_trans (fr_sub a3 (by decide)) (fr_trans (fr_sub f2 (by decide)) (fr_trans (fr_sub f3 (by decide)) (fr_sub g2 (by decide)))), FT_f (FT_f (FT_f F1 f2 (by decide)) f3 (by decide)) g2 (by decide), by rw [g2 _ (by decide), e3, up_eq], nkO_k E Ar.1 (by omega), fun _ => Or.inl ⟨rfl, ?_, ?_, ?_, ?_⟩⟩
      · rw [g4, g2 _ (by decide), f3 _ (by decide), e2, up_eq]; exact A
      · rw [g2 _ (by decide), f3 _ (by decide), f2 _ (by decide), a3 _ (by decide)]; exact hq.2.1
      · rw [g2 _ (by decide), f3 _ (by decide), f2 _ (by decide), a3 _ (by decide)]; exact hq.2.2
      · rw [g4, g2 _ (by decide), f3 _ (by decide), e2, up_eq]
    · rw [if_neg n1]
      have r1f : σ1 fR_runFrom 0 0 = x0 := by rw [a3 _ (by decide)]; exact e0.1
      have go : ∀ r why, r = 2 ∨ r = 3 → why = fOf r → cnC σ0 x0 (acN σ0 true x0 y0) = cd σ0 x0 r → ∃ σ' nk, r_checkActing_109 d σ1 (σ1 fR_actionFound 0 0) why = some (0, σ') ∧ KC σ0 σ' ∧ fr heF σ σ' ∧ FT σ' (min c (cnC σ0 x0 (acN σ0 true x0 y0))) ∧ σ' fR_nounKind 0 0 = nk ∧ kO σ0 nk ∧ (cnC σ0 x0 (acN σ0 true x0 y0) = 1000000 → heQ σ0 false x0 y0 x1 y1 σ' dr nk) := by
        intro r why hr2 hw hc
        have cr := cd_r E.2.1 t0 (r := r) (by omega)
        obtain ⟨σ2, g1, g2, g3⟩ := k_note E.2.1 E.1.2.2.1 a2 F1 (t := x0) (r := r) (why := why) t0 (by omega) hw (d := d) (by omega)
        obtain ⟨σ3, i1, i2, i3, i4⟩ := last σ2 (σ1 fR_actionFound 0 0) (KC_f a2 g2 (by decide)) (by rw [g2 _ (by decide)]; exact ru1)
        rw [e_r_checkActing_109, r1f, g1]
        simp only [Option.bind_some]
        rw [i1, hc]
        exact ⟨σ3, -1, rfl, i3, fr_trans (fr_sub a3 (by decide)) (fr_trans (fr_sub g2 (by decide)) (fr_sub i2 (by decide))), FT_f g3 i2 (by decide), by rw [i2 _ (by decide), g2 _ (by decide), a3 _ (by decide)]; exact hnk, Or.inl rfl, fun z => by omega⟩
      by_cases z0 : acN σ0 true x0 y0 = 0
      · rw [if_pos z0]
        exact go 2 4 (Or.inl rfl) (by decide) (by unfold cnC; rw [if_neg n1, if_pos z0])
      · rw [if_neg z0]
        exact go 3 7 (Or.inr rfl) (by decide) (by unfold cnC; rw [if_neg n1, if_neg z0])
  | true =>
    obtain ⟨hB1, r1f, r1t⟩ := hB1 rfl
    have t1 := frB_t hB1
    have c21 := cd_r E.2.1 t1 (r := 2) (by omega)
    rw [if_pos (show (1 : Int) < (if true = true then 2 else 1) by decide)]
    obtain ⟨σ1, a1, a2, a3, a4⟩ := k_need E K hF hB0 (d := d) (by omega) 8
    have eX : dN σ0 (nmT σ0 x0 y0) 8 = acX σ0 x0 y0 := rfl
    rw [eX] at a1 a4
    have xr := acX_r E x0 y0
    have ru1 : σ1 fR_rule 0 0 = dr := by rw [a2 _ (by decide)]; exact hru
    have nk1 : σ1 fR_nounKind 0 0 = -1 := by rw [a2 _ (by decide)]; exact hnk
    rw [a1]
    simp only [Option.bind_some]
    by_cases z : acX σ0 x0 y0 = -1
    · have eC : heC σ0 true x0 y0 x1 y1 = cd σ0 x0 2 := by unfold heC; rw [if_pos rfl, if_pos z]
      rw [if_pos z] at a4
      obtain ⟨σ2, i1, i2, i3, i4⟩ := last σ1 (acX σ0 x0 y0) a3 ru1
      rw [if_pos z, e_r_checkActing_57, if_pos z, i1, eC]
      exact ⟨σ2, -1, rfl, i3, fr_trans (fr_sub a2 (by decide)) (fr_sub i2 (by decide)), FT_f a4 i2 (by decide), by rw [i2 _ (by decide)]; exact nk1, Or.inl rfl, fun w => by omega⟩
    · rw [if_neg z, Int.min_eq_left le] at a4
      have ek : σ0 fW_actionKinds 0 (acX σ0 x0 y0) = hdKd σ0 x0 y0 := rfl
      rw [if_neg z, ck_ok _ (by omega), a3.1 fW_actionKinds (by decide), ek]
      by_cases w : hdKd σ0 x0 y0 < 0
      · have eC : heC σ0 true x0 y0 x1 y1 = cd σ0 x1 2 := by unfold heC; rw [if_pos rfl, if_neg z, if_pos w]
        obtain ⟨σ2, g1, g2, g3⟩ := k_note E.2.1 E.1.2.2.1 a3 a4 (t := x1) (r := 2) (why := 4) t1 (by omega) (by decide) (d := d) (by omega)
        obtain ⟨σ3, i1, i2, i3, i4⟩ := last σ2 (-1) (KC_f a3 g2 (by decide)) (by rw [g2 _ (by decide)]; exact ru1)
        rw [if_pos w, a2 fR_runFrom (by decide), r1f, g1]
        simp only [Option.bind_some]
        rw [e_r_checkActing_57, if_pos rfl, i1, eC]
        exact ⟨σ3, -1, rfl, i3, fr_trans (fr_sub a2 (by decide)) (fr_trans (fr_sub g2 (by decide)) (fr_sub i2 (by decide))), FT_f g3 i2 (by decide), by rw [i2 _ (by decide), g2 _ (by decide)]; exact nk1, Or.inl rfl, fun v => by omega⟩
      · have eC : heC σ0 true x0 y0 x1 y1 = cnC σ0 x1 (whN σ0 (hdKd σ0 x0 y0) x1 y1) := by unfold heC; rw [if_pos rfl, if_neg z, if_neg w]
        obtain ⟨σ2, g1, g2, g3, g4, g5, g6⟩ := k_whom E a3 a4 (ac := acX σ0 x0 y0) (by omega) (by rw [ek]; omega) hB1 (by rw [a2 _ (by decide)]; exact r1f) (by rw [a2 _ (by decide)]; exact r1t) (by rw [← edr]; exact hd0) (by rw [← edr]; exact ru1) (d := d) (by omega)
        rw [ek] at g4 g5 g6
        rw [← edr] at g5
        obtain ⟨σ3, i1, i2, i3, i4⟩ := last σ2 (acX σ0 x0 y0) g2 (by rw [g3 _ (by decide)]; exact ru1)
        rw [if_neg w, e_r_checkActing_57, if_neg z, g1]
        simp only [Option.bind_some]
        rw [i1, eC]
        by_cases n1 : whN σ0 (hdKd σ0 x0 y0) x1 y1 = 1
        · obtain ⟨wq, w1, w2⟩ := g5 n1
          have nkk : kO σ0 (σ2 fR_nounKind 0 0) := by
            rcases wq with ⟨v1, _, v3⟩ | ⟨_, P, hP, _, _, _, v3⟩
            · have := (whO_r E (hdKd σ0 x0 y0) x1 y1).resolve_left v1
              have o := (e0_o E).2.2.2 _ this.1 this.2.1
              rw [v3]; exact Or.inr (by omega)
            · have pk := dsA_k E (P := P) (show P ∈ dsA σ0 false true (hdKd σ0 x0 y0) x1 y1 by have : dsA σ0 false true (hdKd σ0 x0 y0) x1 y1 = [P] := hP; rw [this]; exact List.mem_singleton.mpr rfl)
              rw [v3]; exact Or.inr pk.1
          refine ⟨σ3, σ2 fR_nounKind 0 0, rfl, i3, fr_trans (fr_sub a2 (by decide)) (fr_trans (fr_sub g3 (by decide)) (fr_sub i2 (by decide))), FT_f g4 i2 (by decide), by rw [i2 _ (by decide)], nkk, fun _ => Or.inr ⟨rfl, i4, z, by omega, ?_⟩⟩
          rcases wq with ⟨v1, v2, v3⟩ | ⟨v1, P, hP, v2, v3, v4, v5⟩
          · have k := w1 v1
            refine Or.inl ⟨v1, by rw [i2 _ (by decide)]; exact v2, ?_, ?_, v3⟩
            · rw [i2 _ (by decide), k _ (by decide), a2 _ (by decide)]; exact hq.2.1
            · rw [i2 _ (by decide), k _ (by decide), a2 _ (by decide)]; exact hq.2.2
          · refine Or.inr ⟨v1, ?_, P, hP, by rw [i2 _ (by decide)]; exact v2, by rw [i2 _ (by decide)]; exact v3, fun i hi => ?_, v5⟩
            · rw [i2 _ (by decide), w2 v1, a2 _ (by decide)]; exact hq.1
            · rw [i2 fQ_which (by decide), i2 fQ_values (by decide)]; exact v4 i hi
        · have k := g6 n1
          refine ⟨σ3, -1, rfl, i3, fr_trans (fr_sub a2 (by decide)) (fr_trans (fr_sub g3 (by decide)) (fr_sub i2 (by decide))), FT_f g4 i2 (by decide), by rw [i2 _ (by decide), k _ (by decide)]; exact nk1, Or.inl rfl, fun v => ?_⟩
          exact absurd (cnC_u E t1 (by omega)) n1
end

/-! descriptions -/
/-- the kind that words mean, or their plural -/
def dkN (σ0 : ga_S) (nm : List Int) (pl : Bool) : Int := if pl = true then (if dN σ0 nm 11 < 100 then dN σ0 nm 11 else -1) else dN σ0 nm 0
def okK (σ0 : ga_S) (kd al : Int) : Bool := decide (kd ≠ -1) && (decide (al = -1) || isB (σ0 fW_parents 0) kd al)
/-- readings as a description whose kind has m words -/
def dsM (σ0 : ga_S) (pl df : Bool) (al a b m : Int) : List (Int × List Int) := if a + m ≤ b ∧ okK σ0 (dkN σ0 (nmT σ0 (b - m) b) pl) al = true then (rdF σ0 (dkN σ0 (nmT σ0 (b - m) b) pl) df 5 a (b - m)).map (fun L => (dkN σ0 (nmT σ0 (b - m) b) pl, L)) else []
def dsA (σ0 : ga_S) (pl df : Bool) (al a b : Int) : List (Int × List Int) := if 6 < b - a then [] else (rg 1 4).flatMap (dsM σ0 pl df al a b)
section
variable {σ0 τ0 : ga_S} {f : Int} {N : Nat}
theorem dkN_r (E : E0 σ0 τ0 f N) (nm : List Int) (pl : Bool) : dkN σ0 nm pl = -1 ∨ (0 ≤ dkN σ0 nm pl ∧ dkN σ0 nm pl < σ0 fW_kinds 0 0) := by
  have r0 := e0_dN E nm 0
  have r11 := e0_dN E nm 11
  have m0 : mxN σ0 0 = σ0 fW_kinds 0 0 := rfl
  unfold dkN
  cases pl with
  | false => rw [if_neg (by decide)]; omega
  | true =>
    rw [if_pos rfl]
    by_cases c : dN σ0 nm 11 < 100
    · rw [if_pos c]
      by_cases z : dN σ0 nm 11 = -1
      · exact Or.inl z
      · right
        have z' := z
        unfold dN at z'
        by_cases y : fnd σ0 nm 0 = -1 ∨ ¬ σ0 fD_sorts 0 (fnd σ0 nm 0) = 11
        · rw [if_pos y] at z'; exact absurd rfl z'
        · have c1 : fnd σ0 nm 0 ≠ -1 := fun w => y (Or.inl w)
          have c2 : σ0 fD_sorts 0 (fnd σ0 nm 0) = 11 := Classical.byContradiction fun w => y (Or.inr w)
          have fx := (fnd_r (σ := σ0) (nm := nm) (Int.le_refl 0)).resolve_left c1
          have w := (e0_d E _ ⟨fx.1, fx.2.1, fx.2.2.1⟩).2 c2
          have e : dN σ0 nm 11 = σ0 fD_numbers 0 (fnd σ0 nm 0) := by unfold dN; rw [if_neg y]
          omega
    · rw [if_neg c]; exact Or.inl rfl
theorem dk_3 (E : E0 σ0 τ0 f N) {a b : Int} (h : frB σ0 N a b) (h3 : 3 < b - a) (pl : Bool) : dkN σ0 (nmT σ0 a b) pl = -1 := by
  have l := wsT_len (σ := σ0) h.2.1
  have z := RD_none E.2.2.1 (wsT_W E.2.1 h) (Or.inr (by omega))
  have d3 : ∀ s, dN σ0 (nmT σ0 a b) s = -1 := fun s => by unfold dN nmT; rw [if_pos (Or.inl z)]
  unfold dkN
  rw [d3, d3]
  split
  · rfl
  · rfl
/-- readings with their kinds were added -/
def PK (τ0 τ τ' : ga_S) (Ps : List (Int × List Int)) : Prop := fr ptM τ τ' ∧ KM τ0 τ' ∧ τ' fM_readings 0 0 = τ fM_readings 0 0 + (Ps.length : Int) ∧ ((τ fM_readings 0 0 ≠ 0 ∨ Ps = []) → τ' fM_readKind = τ fM_readKind ∧ τ' fM_readCount = τ fM_readCount ∧ τ' fM_readAdjective = τ fM_readAdjective) ∧ (τ fM_readings 0 0 = 0 → ∀ P R, Ps = P :: R → τ' fM_readKind 0 0 = P.1 ∧ τ' fM_readCount 0 0 = (P.2.length : Int) ∧ (∀ i : Nat, i < P.2.length → τ' fM_readAdjective 0 i = P.2.getD i 0))
theorem PK_0 {τ : ga_S} (K : KM τ0 τ) : PK τ0 τ τ [] := ⟨fr_refl _ _, K, by simp, fun _ => ⟨rfl, rfl, rfl⟩, fun _ P R e => by cases e⟩
theorem PK_T {kd : Int} {τ τ' : ga_S} {Ls : List (List Int)} (h : PT τ0 0 kd τ τ' Ls) : PK τ0 τ τ' (Ls.map (fun L => (kd, L))) := by
  obtain ⟨h1, h2, h3, h4, h5, h6⟩ := h
  refine ⟨h1, h2, by rw [h4, List.length_map], fun z => h5 (z.imp_right (fun e => List.map_eq_nil_iff.mp e)), fun z P R e => ?_⟩
  cases Ls with
  | nil => cases e
  | cons X Y =>
    rw [List.map_cons] at e
    injection e with e1 e2
    subst e1
    have a := h6 z X Y rfl
    exact ⟨a.1, by rw [a.2.1, Int.zero_add], fun i hi => by have := a.2.2.2 i hi; rw [Int.zero_add] at this; exact this⟩
theorem PK_app {τ τ1 τ2 : ga_S} {L1 L2 : List (Int × List Int)} (h0 : 0 ≤ τ fM_readings 0 0) (h : PK τ0 τ τ1 L1) (g : PK τ0 τ1 τ2 L2) : PK τ0 τ τ2 (L1 ++ L2) := by
  obtain ⟨h1, h2, h4, h5, h6⟩ := h
  obtain ⟨g1, g2, g4, g5, g6⟩ := g
  refine ⟨fr_trans h1 g1, g2, by rw [g4, h4, List.length_append]; push_cast; omega, fun z => ?_, fun z L R e => ?_⟩
  · rcases z with z | z
    · have a := h5 (Or.inl z)
      have b := g5 (Or.inl (by omega))
      exact ⟨b.1.trans a.1, b.2.1.trans a.2.1, b.2.2.trans a.2.2⟩
    · have e := List.append_eq_nil_iff.mp z
      have a := h5 (Or.inr e.1)
      have b := g5 (Or.inr e.2)
      exact ⟨b.1.trans a.1, b.2.1.trans a.2.1, b.2.2.trans a.2.2⟩
  · cases L1 with
    | nil =>
      have r1 : τ1 fM_readings 0 0 = 0 := by rw [h4, z]; rfl
      exact g6 r1 L R e
    | cons X Y =>
      rw [List.cons_append] at e
      injection e with e1 e2
      subst e1
      have a := h6 z X Y rfl
      have b := g5 (Or.inl (by rw [h4, z, List.length_cons]; push_cast; omega))
      exact ⟨by rw [b.1]; exact a.1, by rw [b.2.1]; exact a.2.1, fun i hi => by rw [b.2.2]; exact a.2.2 i hi⟩
/-- there are not too many -/
theorem rdF_len (E : E0 σ0 τ0 f N) (kind : Int) (df : Bool) : ∀ (k : Nat) (a b : Int), ((rdF σ0 kind df k a b).length : Int) ≤ 37 ^ k := by
  intro k
  induction k with
  | zero => intro a b; unfold rdF; split <;> simp
  | succ k ih =>
    intro a b
    have p : (0 : Int) < 37 ^ k := Int.pow_pos (by decide)
    unfold rdF
    split
    · rw [Int.pow_succ]; simp; omega
    · rw [rg_s (by omega), rg_s (by omega), rg_s (by omega), rg_n (by omega)]
      simp only [List.flatMap_cons, List.flatMap_nil, List.length_append, List.append_nil]
      have one : ∀ m : Int, (((if a + m ≤ b then (aL σ0 (nmT σ0 a (a + m)) kind false df).flatMap (fun c => (rdF σ0 kind df k (a + m) b).map (fun L => c :: L)) else []) : List (List Int)).length : Int) ≤ 12 * 37 ^ k := by
        intro m
        by_cases c : a + m ≤ b
        · rw [if_pos c, fm_len]
          have l12 : ((aL σ0 (nmT σ0 a (a + m)) kind false df).length : Int) ≤ 12 := by
            unfold aL
            have w12 := (e0_p E).2.1
            have w1 := (e0_p E).1
            split
            · split
              · simp
              · rw [List.length_replicate]
                unfold plV PL
                have l1 := List.length_filter_le (fun p => decide (σ0 fW_propertyTypes 0 p = σ0 fW_valueTypes 0 (fvN σ0 (nmT σ0 a (a + m)) false)) && own σ0 kind p) (rg 0 (σ0 fW_properties 0 0))
                have l2 := rg_len (n := σ0 fW_properties 0 0) 0
                rw [if_pos (by omega)] at l2
                omega
            · split <;> simp
          have := ih (a + m) b
          push_cast
          exact Int.mul_le_mul l12 this (by omega) (by omega)
        · rw [if_neg c]; simp; omega
      have a1 := one 1
      have a2 := one 2
      have a3 := one 3
      rw [Int.pow_succ]
      push_cast
      omega
theorem dsM_len (E : E0 σ0 τ0 f N) (pl df : Bool) (al a b m : Int) : ((dsM σ0 pl df al a b m).length : Int) ≤ 69343957 := by
  unfold dsM
  split
  · rw [List.length_map]; exact rdF_len E _ df 5 a (b - m)
  · simp
theorem m_describe (E : E0 σ0 τ0 f N) {a b t n : Int} (hb : frB σ0 N a b) (ht : t = f + a) (hn : n = b - a) (pl df : Bool) {al : Int} {τ : ga_S} (K : KM τ0 τ) (h0 : τ fM_readings 0 0 = 0) {d : Nat} (hd : 12 ≤ d) : ∃ τ', c_m_describe d τ t n (b2i pl) (b2i df) al = some (0, τ') ∧ PK τ0 τ τ' (dsA σ0 pl df al a b) := by
  obtain ⟨d, rfl⟩ : ∃ e, d = e + 1 := ⟨d - 1, by omega⟩
  have i1 := hb.1
  have i2 := hb.2.1
  have i3 := hb.2.2.1
  have hf0 := E.1.1
  have hfN := E.1.2.1
  have wk := e0_k E
  rw [ht, hn, e_m_describe]
  unfold dsA
  by_cases c6 : 6 < b - a
  · rw [if_pos c6, if_pos c6]
    exact ⟨τ, rfl, PK_0 K⟩
  · rw [if_neg c6, if_neg c6]
    have mk : ∀ nm, mN σ0 nm (if pl = true then 1 else 0) = dkN σ0 nm pl := by
      intro nm
      have M := mN_k E nm
      unfold dkN
      cases pl with
      | true => rw [if_pos rfl, if_pos rfl]; exact M.2.1
      | false => rw [if_neg (by decide), if_neg (by decide)]; exact M.1
    have hp : ∀ τ1, KM τ0 τ1 → ∀ k, 0 ≤ k → k < σ0 fW_kinds 0 0 → τ1 fM_above 0 k = σ0 fW_parents 0 k := fun τ1 K1 k h0 h1 => by rw [K1 _ (by decide)]; exact wk.2.2.2.1 k h0 h1
    have lp : ∀ m, 1 ≤ m → ∀ τ, KM τ0 τ → 0 ≤ τ fM_readings 0 0 → τ fM_readings 0 0 ≤ 69343957 * (m - 1) → ∃ τ', m_describe_10 d τ (f + a) (b - a) (b2i pl) (b2i df) al m = some (0, τ') ∧ PK τ0 τ τ' ((rg m 4).flatMap (dsM σ0 pl df al a b)) := by
      refine rg_ind (n := 4) ?_ ?_
      · intro m h m1 τ K h0 _
        rw [rg_n h, e_m_describe_10, if_pos (by omega)]
        exact ⟨τ, rfl, PK_0 K⟩
      · intro m h ihm m1 τ K h0 hR
        rw [rg_s h, List.flatMap_cons, e_m_describe_10, if_neg (by omega)]
        by_cases mb : a + m ≤ b
        · rw [if_neg (by omega), w32_ok (x := f + a + (b - a)) (by omega), w32_ok (x := f + a + (b - a) - m) (by omega)]
          have s40 : (if b2i pl = 0 then m_describe_40 d τ (f + a) (b - a) (b2i pl) (b2i df) al m 0 m (f + a + (b - a) - m) else m_describe_40 d τ (f + a) (b - a) (b2i pl) (b2i df) al m 1 m (f + a + (b - a) - m)) = m_describe_40 d τ (f + a) (b - a) (b2i pl) (b2i df) al m (if pl = true then 1 else 0) m (f + a + (b - a) - m) := by
            cases pl with
            | true => rw [if_neg b2i_n, if_pos rfl]
            | false => rw [if_pos b2i_f, if_neg (by decide)]
          rw [s40, e_m_describe_40, m_means E K (a := b - m) (b := b) (frB_s hb (by omega) (by omega) (Int.le_refl _)) (by omega) (by omega) (by omega), mk]
          simp only [Option.bind_some]
          obtain ⟨kd, ekd⟩ : ∃ x, x = dkN σ0 (nmT σ0 (b - m) b) pl := ⟨_, rfl⟩
          have rk := dkN_r E (nmT σ0 (b - m) b) pl
          rw [← ekd] at rk ⊢
          have s84 : ∀ ρ, m_describe_84 d ρ (f + a) (b - a) (b2i pl) (b2i df) al m = m_describe_10 d ρ (f + a) (b - a) (b2i pl) (b2i df) al (m + 1) := fun ρ => by rw [e_m_describe_84, w32_ok (by omega)]
          have skip : okK σ0 kd al = false → ∃ τ', m_describe_84 d τ (f + a) (b - a) (b2i pl) (b2i df) al m = some (0, τ') ∧ PK τ0 τ τ' (dsM σ0 pl df al a b m ++ (rg (m + 1) 4).flatMap (dsM σ0 pl df al a b)) := by
            intro hk
            have e : dsM σ0 pl df al a b m = [] := by unfold dsM; rw [if_neg (fun z => by have := z.2; rw [← ekd, hk] at this; cases this)]
            obtain ⟨τ', x1, x2⟩ := ihm (by omega) τ K h0 (by omega)
            rw [s84, e, List.nil_append]
            exact ⟨τ', x1, x2⟩
          have take : okK σ0 kd al = true → (0 ≤ kd ∧ kd < σ0 fW_kinds 0 0) → ∃ τ', m_describe_68 d τ (f + a) (b - a) (b2i pl) (b2i df) al m kd = some (0, τ') ∧ PK τ0 τ τ' (dsM σ0 pl df al a b m ++ (rg (m + 1) 4).flatMap (dsM σ0 pl df al a b)) := by
            intro hk hkd
            have e : dsM σ0 pl df al a b m = (rdF σ0 kd df 5 a (b - m)).map (fun L => (kd, L)) := by unfold dsM; rw [← ekd, if_pos ⟨mb, hk⟩]
            have l5 := rdF_len E kd df 5 a (b - m)
            have e37 : (37 : Int) ^ 5 = 69343957 := by decide
            rw [e37] at l5
            obtain ⟨τ1, y1, y2⟩ := m_parted E hkd df 5 a (b - m) 0 τ d (frB_s hb (Int.le_refl _) (by omega) (by omega)) (by omega) (Int.le_refl _) (by omega) K h0 (by omega) (by omega)
            have P1 := PK_T y2
            rw [← e] at P1
            have r1 := P1.2.2.1
            rw [e, List.length_map] at r1
            obtain ⟨τ2, x1, x2⟩ := ihm (by omega) τ1 P1.2.1 (by omega) (by omega)
            refine ⟨τ2, ?_, PK_app h0 P1 x2⟩
            rw [e_m_describe_68, w32_ok (x := f + a + (b - a)) (by omega), w32_ok (x := f + a + (b - a) - m) (by omega), show f + a + (b - a) - m = f + (b - m) by omega, y1]
            simp only [Option.bind_some]
            rw [s84]; exact x1
          by_cases z1 : kd = -1
          · rw [if_pos z1]
            exact skip (by unfold okK; rw [decide_eq_false (fun w => w z1), Bool.false_and])
          · have hkd := rk.resolve_left z1
            rw [if_neg z1]
            by_cases z2 : al = -1
            · rw [if_pos z2]
              exact take (by unfold okK; rw [decide_eq_true z1, decide_eq_true z2]; rfl) hkd
            · rw [if_neg z2, s_m_isBelow wk.1 (hp τ K) (by omega) _ (by omega) hkd.2]
              simp only [Option.bind_some]
              cases q : isB (σ0 fW_parents 0) kd al with
              | false =>
                rw [if_pos b2i_f]
                exact skip (by unfold okK; rw [decide_eq_true z1, decide_eq_false z2, q]; rfl)
              | true =>
                rw [if_neg b2i_n]
                exact take (by unfold okK; rw [decide_eq_true z1, decide_eq_false z2, q]; rfl) hkd
        · have nil : ∀ x, m ≤ x → dsM σ0 pl df al a b x = [] := fun x hx => by unfold dsM; rw [if_neg (fun z => by have := z.1; omega)]
          have e' : (rg (m + 1) 4).flatMap (dsM σ0 pl df al a b) = [] := by
            apply List.flatMap_eq_nil_iff.mpr
            intro x hx
            exact nil x (by have := (rg_mem (m + 1)).mp hx; omega)
          rw [if_pos (by omega), nil m (Int.le_refl _), e']
          exact ⟨τ, rfl, PK_0 K⟩
    exact lp 1 (Int.le_refl _) τ K (by omega) (by omega)
/-! the component -/
def dsF : List Nat := fR_describedKind :: wyL
def WD (σ0 σ σ' : ga_S) (T : Int) (Ps : List (Int × List Int)) : Prop := fr dsF σ σ' ∧ KC σ0 σ' ∧ eq3 T Ps.length ∧ (∀ P, Ps = [P] → σ' fR_describedKind 0 0 = P.1 ∧ σ' fR_described 0 0 = (P.2.length : Int) ∧ ∀ i : Nat, i < P.2.length → rdR (σ' fR_describedWhich 0 i) (σ' fR_describedValue 0 i) (P.2.getD i 0))
def WE (σ0 σ σ' : ga_S) (T : Int) (Ps : List (Int × List Int)) : Prop := WD σ0 σ σ' T Ps ∧ T ≤ 20000000
theorem k_description (E : E0 σ0 τ0 f N) {a b : Int} (hb : frB σ0 N a b) (pl df : Bool) {al : Int} (hal : al = -1 ∨ 0 ≤ al) {σ : ga_S} (K : KC σ0 σ) {d : Nat} (hd : 12 ≤ d) : ∃ T σ', c_r_description d σ a b (b2i pl) (b2i df) al = some (T, σ') ∧ WE σ0 σ σ' T (dsA σ0 pl df al a b).reverse := by
  obtain ⟨d, rfl⟩ : ∃ e, d = e + 1 := ⟨d - 1, by omega⟩
  have i1 := hb.1
  have i2 := hb.2.1
  have i3 := hb.2.2.1
  have hN5 := E.1.2.2.1
  have wk := e0_k E
  rw [e_r_description, w32_ok (x := b - a) (by omega)]
  unfold dsA
  have W0 : WD σ0 σ σ 0 [] := ⟨fr_refl _ _, K, ⟨by omega, by simp, by simp⟩, fun P e => by cases e⟩
  by_cases c6 : 6 < b - a
  · rw [if_pos c6, if_pos c6]
    exact ⟨0, σ, rfl, W0, by omega⟩
  · rw [if_neg c6, if_neg c6]
    -- the kinds of b - m words, the longest first
    obtain ⟨D, eD⟩ : ∃ D : Int → List (Int × List Int), D = fun m => (dsM σ0 pl df al a b (b - m)).reverse := ⟨_, rfl⟩
    have lp : ∀ m, a ≤ m → m ≤ b → ∀ (σ1 : ga_S) (all : Int) (Ps : List (Int × List Int)), WD σ0 σ σ1 all Ps → all ≤ 3200000 * (m - a) → ∃ T σ', r_description_16 d σ1 a b (b2i pl) (b2i df) al all m = some (T, σ') ∧ WE σ0 σ σ' T (Ps ++ (rg m b).flatMap D) := by
      refine rg_ind (n := b) ?_ ?_
      · intro m h m1 m2 σ1 all Ps W hall
        rw [e_r_description_16, if_neg (by omega), rg_n h, List.flatMap_nil, List.append_nil]
        exact ⟨all, σ1, rfl, W, by omega⟩
      · intro m h ihm m1 m2 σ1 all Ps W hall
        have all0 := W.2.2.1.1
        rw [rg_s h, List.flatMap_cons]
        obtain ⟨s, es⟩ : ∃ s : Int, s = (if pl = true then 11 else 0) := ⟨_, rfl⟩
        have s36 : r_description_16 d σ1 a b (b2i pl) (b2i df) al all m = r_description_36 d σ1 a b (b2i pl) (b2i df) al all m s b m := by
          rw [e_r_description_16, if_pos h]
          cases pl with
          | true => rw [if_neg b2i_n, es]; rfl
          | false => rw [if_pos b2i_f, es]; rfl
        obtain ⟨σ2, b1, b2, b3, b4⟩ := k_mean E W.2.1 (a := m) (b := b) (frB_s hb (by omega) (by omega) (Int.le_refl _)) (d := d) (by omega) s
        obtain ⟨kd, ekd⟩ : ∃ x, x = dkN σ0 (nmT σ0 m b) pl := ⟨_, rfl⟩
        have rk := dkN_r E (nmT σ0 m b) pl
        rw [← ekd] at rk
        have r0 := e0_dN E (nmT σ0 m b) 0
        have k16 := wk.1.1
        have m0 : mxN σ0 0 = σ0 fW_kinds 0 0 := rfl
        -- what the component asks of the number
        have kk : (dN σ0 (nmT σ0 m b) s = -1 ∧ kd = -1) ∨ (dN σ0 (nmT σ0 m b) s ≠ -1 ∧ ¬ dN σ0 (nmT σ0 m b) s < 100 ∧ kd = -1) ∨ (dN σ0 (nmT σ0 m b) s ≠ -1 ∧ dN σ0 (nmT σ0 m b) s < 100 ∧ kd = dN σ0 (nmT σ0 m b) s) := by
          rw [ekd, es]
          unfold dkN
          cases pl with
          | true =>
            rw [if_pos rfl, if_pos rfl]
            by_cases z : dN σ0 (nmT σ0 m b) 11 < 100
            · rw [if_pos z]; omega
            · rw [if_neg z]; omega
          | false =>
            rw [if_neg (by decide), if_neg (by decide)]
            omega
        have W2 : WD σ0 σ σ2 all Ps := by
          obtain ⟨w1, w2, w3, w4⟩ := W
          refine ⟨fr_trans w1 (fr_sub b2 (by decide)), b4, w3, fun P e => ?_⟩
          have := w4 P e
          rw [b2 _ (by decide), b2 _ (by decide), b2 _ (by decide), b2 _ (by decide)]
          exact this
        have s141 : ∀ ρ x, r_description_141 d ρ a b (b2i pl) (b2i df) al x m = r_description_16 d ρ a b (b2i pl) (b2i df) al x (m + 1) := fun ρ x => by rw [e_r_description_141, w32_ok (by omega)]
        have eDm : D m = (if okK σ0 kd al = true then ((rdF σ0 kd df 5 a m).map (fun L => (kd, L))).reverse else []) := by
          rw [eD]
          show (dsM σ0 pl df al a b (b - m)).reverse = _
          unfold dsM
          rw [show b - (b - m) = m by omega, ← ekd]
          by_cases z : okK σ0 kd al = true
          · rw [if_pos ⟨by omega, z⟩, if_pos z]
          · rw [if_neg (fun y => z y.2), if_neg z]; rfl
        have skip : okK σ0 kd al = false → ∃ T σ', r_description_141 d σ2 a b (b2i pl) (b2i df) al all m = some (T, σ') ∧ WE σ0 σ σ' T (Ps ++ (D m ++ (rg (m + 1) b).flatMap D)) := by
          intro hk
          rw [hk, if_neg (by decide)] at eDm
          obtain ⟨T, σ', x1, x2⟩ := ihm (by omega) (by omega) σ2 all Ps W2 (by omega)
          rw [s141, eDm, List.nil_append]
          exact ⟨T, σ', x1, x2⟩
        have take : okK σ0 kd al = true → (0 ≤ kd ∧ kd < σ0 fW_kinds 0 0) → ∃ T σ', r_description_74 d σ2 a b (b2i pl) (b2i df) al all m kd = some (T, σ') ∧ WE σ0 σ σ' T (Ps ++ (D m ++ (rg (m + 1) b).flatMap D)) := by
          intro hk hkd
          rw [hk, if_pos rfl] at eDm
          -- the store where the ways are asked for
          obtain ⟨σ3, e3⟩ : ∃ x, x = (if all = 0 then ga_up σ2 fR_described 0 0 0 else σ2) := ⟨_, rfl⟩
          have f3 : fr [fR_described] σ2 σ3 := by
            rw [e3]
            by_cases z : all = 0
            · rw [if_pos z]; exact fr_u (by decide)
            · rw [if_neg z]; exact fr_refl _ _
          have s90 : r_description_74 d σ2 a b (b2i pl) (b2i df) al all m kd = r_description_90 d σ3 a b (b2i pl) (b2i df) al all m kd (σ2 fR_described 0 0) := by
            rw [e_r_description_74, e3]
            by_cases z : all = 0
            · rw [if_pos z, if_pos z]
            · rw [if_neg z, if_neg z]
          obtain ⟨n, σ4, g1, g2, g3⟩ := k_ways E hkd df 5 a m 0 σ3 d (frB_s hb (Int.le_refl _) (by omega) (by omega)) (by omega) (by omega) (Int.le_refl _) (by omega) (KC_f b4 f3 (by decide)) (by omega)
          have e20 : (20 : Int) ^ 5 = 3200000 := by decide
          rw [e20] at g3
          have n0 := g2.2.2.1.1
          have lenD : (D m).length = (rdF σ0 kd df 5 a m).length := by rw [eDm, List.length_reverse, List.length_map]
          have w134 : ∀ ρ, r_description_134 d ρ a b (b2i pl) (b2i df) al all m n = r_description_16 d ρ a b (b2i pl) (b2i df) al (all + n) (m + 1) := by
            intro ρ
            rw [e_r_description_134, w32_ok (x := all + n) (by omega), s141]
          have q3 := eq3_add W2.2.2.1 (show eq3 n (D m).length by rw [lenD]; exact g2.2.2.1)
          have fin : ∀ σ5, fr [fR_described, fR_describedKind] σ4 σ5 → (∀ P, Ps ++ D m = [P] → σ5 fR_describedKind 0 0 = P.1 ∧ σ5 fR_described 0 0 = (P.2.length : Int) ∧ ∀ i : Nat, i < P.2.length → rdR (σ5 fR_describedWhich 0 i) (σ5 fR_describedValue 0 i) (P.2.getD i 0)) → ∃ T σ', r_description_16 d σ5 a b (b2i pl) (b2i df) al (all + n) (m + 1) = some (T, σ') ∧ WE σ0 σ σ' T (Ps ++ (D m ++ (rg (m + 1) b).flatMap D)) := by
            intro σ5 f5 h5
            have W5 : WD σ0 σ σ5 (all + n) (Ps ++ D m) := ⟨fr_trans W2.1 (fr_trans (fr_sub f3 (by decide)) (fr_trans (fr_sub g2.1 (by decide)) (fr_sub f5 (by decide)))), KC_f g2.2.1 f5 (by decide), by rw [List.length_append]; exact q3, h5⟩
            obtain ⟨T, σ', x1, x2⟩ := ihm (by omega) (by omega) σ5 (all + n) (Ps ++ D m) W5 (by omega)
            rw [← List.append_assoc]
            exact ⟨T, σ', x1, x2⟩
          rw [s90, e_r_description_90, g1]
          simp only [Option.bind_some]
          by_cases z : all = 0
          · have p0 : Ps = [] := List.length_eq_zero_iff.mp (W2.2.2.1.2.1.mp z)
            rw [if_pos z] at e3
            have d3 : σ3 fR_described 0 0 = 0 := by rw [e3, up_eq]
            rw [if_pos z]
            by_cases y : 0 < n
            · rw [if_pos y, w134]
              refine fin _ (fr_u (by decide)) (fun P e => ?_)
              rw [p0, List.nil_append, eDm] at e
              have l1 : (rdF σ0 kd df 5 a m).length = 1 := by
                have := congrArg List.length e
                rw [List.length_reverse, List.length_map] at this
                exact this
              obtain ⟨L, hL⟩ := List.length_eq_one_iff.mp l1
              rw [hL] at e
              have eP : (kd, L) = P := by
                simp at e
                exact e
              have u := g2.2.2.2.2.2 L hL
              rw [← eP]
              refine ⟨by rw [up_eq], ?_, fun i hi => ?_⟩
              · rw [up_F (by decide), u.2, d3]
                by_cases w : L = []
                · rw [if_pos w, w]; rfl
                · rw [if_neg w]; simp
              · have v := u.1 i hi
                rw [Int.zero_add] at v
                rw [up_F (by decide), up_F (by decide)]; exact v
            · have nn0 : n = 0 := by omega
              have dn : D m = [] := by
                have := g2.2.2.1.2.1.mp nn0
                rw [← lenD] at this
                exact List.length_eq_zero_iff.mp this
              rw [if_neg y, e_r_description_123, if_neg (by omega), w134]
              refine fin σ4 (fr_refl _ _) (fun P e => ?_)
              rw [p0, dn] at e
              cases e
          · rw [if_neg z] at e3
            rw [if_neg z, e_r_description_123, if_pos (by omega), w134]
            refine fin _ (fr_u (by decide)) (fun P e => ?_)
            have pl0 : Ps.length ≠ 0 := fun w => z (W2.2.2.1.2.1.mpr w)
            have len := congrArg List.length e
            rw [List.length_append] at len
            simp only [List.length_cons, List.length_nil] at len
            have dn : D m = [] := List.length_eq_zero_iff.mp (by omega)
            have nn0 : n = 0 := g2.2.2.1.2.1.mpr (by rw [← lenD, dn]; rfl)
            have sd := g2.2.2.2.2.1 nn0
            rw [dn, List.append_nil] at e
            have v := W2.2.2.2 P e
            rw [up_F (by decide), up_eq, up_F (by decide), up_F (by decide), sd.2.1, sd.2.2, g2.1 fR_describedKind (by decide), e3]
            exact v
        rw [s36, e_r_description_36, b1]
        simp only [Option.bind_some]
        rcases kk with ⟨z1, z2⟩ | ⟨z1, z2, z3⟩ | ⟨z1, z2, z3⟩
        · rw [if_pos z1]
          exact skip (by unfold okK; rw [decide_eq_false (fun w => w z2), Bool.false_and])
        · rw [if_neg z1, if_neg z2]
          exact skip (by unfold okK; rw [decide_eq_false (fun w => w z3), Bool.false_and])
        · have hkd := rk.resolve_left (by omega)
          rw [if_neg z1, if_pos z2, ← z3]
          by_cases y : al = -1
          · rw [if_pos y]
            exact take (by unfold okK; rw [decide_eq_true (show kd ≠ -1 by omega), decide_eq_true y]; rfl) hkd
          · have hF : FO (σ2 fW_parents 0) (σ0 fW_kinds 0 0) := by rw [b4.1 _ (by decide)]; exact wk.1
            rw [if_neg y, s_w_isBelow hF (by omega) _ (by omega) hkd.2, b4.1 fW_parents (by decide)]
            simp only [Option.bind_some]
            cases q : isB (σ0 fW_parents 0) kd al with
            | false =>
              rw [if_pos b2i_f]
              exact skip (by unfold okK; rw [decide_eq_true (show kd ≠ -1 by omega), decide_eq_false y, q]; rfl)
            | true =>
              rw [if_neg b2i_n]
              exact take (by unfold okK; rw [decide_eq_true (show kd ≠ -1 by omega), decide_eq_false y, q]; rfl) hkd
    obtain ⟨T, σ', x1, x2⟩ := lp a (Int.le_refl _) i2 σ 0 [] W0 (by omega)
    refine ⟨T, σ', x1, ?_⟩
    rw [List.nil_append] at x2
    -- the two orders
    have ord : ∀ m, a ≤ m → m ≤ b → (rg m b).flatMap D = ((rg 1 (b - m + 1)).flatMap (dsM σ0 pl df al a b)).reverse := by
      refine rg_ind (n := b) ?_ ?_
      · intro m h _ _
        rw [rg_n h, rg_n (by omega)]; rfl
      · intro m h ihm m1 m2
        have sn : rg 1 (b - m + 1) = rg 1 (b - (m + 1) + 1) ++ [b - m] := by
          rw [rg_snoc (n := b - m) 1 (by omega), show b - (m + 1) + 1 = b - m by omega]
        rw [rg_s h, List.flatMap_cons, ihm (by omega) (by omega), sn, List.flatMap_append, List.reverse_append]
        congr 1
        rw [eD]
        show (dsM σ0 pl df al a b (b - m)).reverse = ([b - m].flatMap (dsM σ0 pl df al a b)).reverse
        rw [List.flatMap_cons, List.flatMap_nil, List.append_nil]
    rw [ord a (Int.le_refl _) i2] at x2
    have big : ∀ x, 3 < x → x ≤ b - a → dsM σ0 pl df al a b x = [] := by
      intro x h3 hx
      have z := dk_3 E (a := b - x) (b := b) (frB_s hb (by omega) (by omega) (Int.le_refl _)) (by omega) pl
      unfold dsM
      rw [if_neg (fun y => by have := y.2; unfold okK at this; rw [decide_eq_false (fun w => w z)] at this; cases this)]
    have small : ∀ x, b - a < x → dsM σ0 pl df al a b x = [] := by
      intro x hx
      unfold dsM
      rw [if_neg (fun y => by have := y.1; omega)]
    have eqs : (rg 1 (b - a + 1)).flatMap (dsM σ0 pl df al a b) = (rg 1 4).flatMap (dsM σ0 pl df al a b) := by
      have ext : ∀ (j : Nat) (n : Int), 1 ≤ n → (∀ x, n ≤ x → x < n + j → dsM σ0 pl df al a b x = []) → (rg 1 (n + j)).flatMap (dsM σ0 pl df al a b) = (rg 1 n).flatMap (dsM σ0 pl df al a b) := by
        intro j
        induction j with
        | zero => intro n _ _; simp
        | succ j ihj =>
          intro n hn hx
          push_cast
          rw [show n + ((j : Int) + 1) = n + j + 1 by omega, rg_snoc 1 (by omega), List.flatMap_append, ihj n hn (fun x a b => hx x a (by push_cast; omega)), List.flatMap_cons, List.flatMap_nil, hx (n + j) (by omega) (by push_cast; omega)]
          simp
      by_cases c : b - a + 1 ≤ 4
      · have := ext (4 - (b - a + 1)).toNat (b - a + 1) (by omega) (fun x h1 _ => small x (by omega))
        rw [show b - a + 1 + ((4 - (b - a + 1)).toNat : Int) = 4 by omega] at this
        exact this.symm
      · have := ext (b - a + 1 - 4).toNat 4 (by omega) (fun x h1 h2 => big x (by omega) (by omega))
        rw [show (4 : Int) + ((b - a + 1 - 4).toNat : Int) = b - a + 1 by omega] at this
        exact this
    rw [eqs] at x2
    exact x2
end

/-! words parted into adjectives: the model -/
theorem s_cpy_rd {d : Nat} (hd : 1 ≤ d) (σ : ga_S) : p_cpy_151_150 d σ 0 0 6 = some (0, am_copy σ fM_chunk 0 0 fM_readAdjective 0 0 6) := by
  obtain ⟨d, rfl⟩ : ∃ e, d = e + 1 := ⟨d - 1, by omega⟩
  rfl
theorem am_copy_fr (σ : ga_S) (Fa : Nat) (n sp : Int) (Fb : Nat) (m dp len : Int) : fr [Fb] σ (am_copy σ Fa n sp Fb m dp len) := by
  intro F hF
  funext k i
  unfold am_copy
  rw [if_neg (fun z => hF (by rw [z.1]; exact List.mem_cons_self ..))]
theorem am_copy_at (σ : ga_S) (Fa : Nat) (n sp : Int) (Fb : Nat) (m dp len : Int) {i : Int} (h : dp ≤ i ∧ i < dp + len) : am_copy σ Fa n sp Fb m dp len Fb m i = σ Fa n (i - dp + sp) := by
  unfold am_copy
  rw [if_pos ⟨rfl, rfl, h.1, h.2⟩]
/-- all ways to part words into adjectives of a kind, as codes -/
def rdF (σ0 : ga_S) (kind : Int) (df : Bool) : Nat → Int → Int → List (List Int)
  | 0, a, b => if a = b then [[]] else []
  | k + 1, a, b => if a = b then [[]] else (rg 1 4).flatMap (fun m => if a + m ≤ b then (aL σ0 (nmT σ0 a (a + m)) kind false df).flatMap (fun c => (rdF σ0 kind df k (a + m) b).map (fun L => c :: L)) else [])
theorem rdF_0 (σ0 : ga_S) (kind : Int) (df : Bool) (k : Nat) (a : Int) : rdF σ0 kind df k a a = [[]] := by
  cases k with
  | zero => unfold rdF; rw [if_pos rfl]
  | succ k => unfold rdF; rw [if_pos rfl]
theorem aL_rep (σ0 : ga_S) (nm : List Int) (kind : Int) (nv df : Bool) : aL σ0 nm kind nv df = List.replicate (aL σ0 nm kind nv df).length ((aL σ0 nm kind nv df).headD 0) := by
  unfold aL
  by_cases c1 : dN σ0 nm 3 = -1
  · rw [if_pos c1]
    by_cases c2 : fvN σ0 nm nv = -1
    · rw [if_pos c2]; rfl
    · rw [if_neg c2, List.length_replicate]
      cases (plV σ0 kind (fvN σ0 nm nv)).length with
      | zero => rfl
      | succ m => rfl
  · rw [if_neg c1]
    by_cases c2 : fitA σ0 kind (dN σ0 nm 3) df = true
    · rw [if_pos c2]; rfl
    · rw [if_neg c2]; rfl
def ptM : List Nat := [fM_readings, fM_readKind, fM_readCount, fM_readAdjective, fM_chunk, fM_foundAdjective, fM_matches]
section
variable {σ0 τ0 : ga_S} {f : Int} {N : Nat}
/-- the readings Ls were added, each behind the first n chunks -/
def PT (τ0 : ga_S) (n kind : Int) (τ τ' : ga_S) (Ls : List (List Int)) : Prop := fr ptM τ τ' ∧ KM τ0 τ' ∧ (∀ i, i < n → τ' fM_chunk 0 i = τ fM_chunk 0 i) ∧ τ' fM_readings 0 0 = τ fM_readings 0 0 + (Ls.length : Int) ∧ ((τ fM_readings 0 0 ≠ 0 ∨ Ls = []) → τ' fM_readKind = τ fM_readKind ∧ τ' fM_readCount = τ fM_readCount ∧ τ' fM_readAdjective = τ fM_readAdjective) ∧ (τ fM_readings 0 0 = 0 → ∀ L R, Ls = L :: R → τ' fM_readKind 0 0 = kind ∧ τ' fM_readCount 0 0 = n + (L.length : Int) ∧ (∀ i, 0 ≤ i → i < n → τ' fM_readAdjective 0 i = τ fM_chunk 0 i) ∧ (∀ i : Nat, i < L.length → τ' fM_readAdjective 0 (n + i) = L.getD i 0))
theorem PT_0 {n kind : Int} {τ τ' : ga_S} (K : KM τ0 τ) (h : fr adM τ τ') : PT τ0 n kind τ τ' [] := by
  refine ⟨fr_sub h (by decide), KM_f K h (by decide), fun i _ => by rw [h _ (by decide)], by rw [h _ (by decide)]; simp, fun _ => ⟨h _ (by decide), h _ (by decide), h _ (by decide)⟩, fun _ L R e => by cases e⟩
theorem PT_app {n kind : Int} {τ τ1 τ2 : ga_S} {L1 L2 : List (List Int)} (h0 : 0 ≤ τ fM_readings 0 0) (h : PT τ0 n kind τ τ1 L1) (g : PT τ0 n kind τ1 τ2 L2) : PT τ0 n kind τ τ2 (L1 ++ L2) := by
  obtain ⟨h1, h2, h3, h4, h5, h6⟩ := h
  obtain ⟨g1, g2, g3, g4, g5, g6⟩ := g
  refine ⟨fr_trans h1 g1, g2, fun i hi => (g3 i hi).trans (h3 i hi), by rw [g4, h4, List.length_append]; push_cast; omega, fun z => ?_, fun z L R e => ?_⟩
  · rcases z with z | z
    · have a := h5 (Or.inl z)
      have b := g5 (Or.inl (by omega))
      exact ⟨b.1.trans a.1, b.2.1.trans a.2.1, b.2.2.trans a.2.2⟩
    · have e := List.append_eq_nil_iff.mp z
      have a := h5 (Or.inr e.1)
      have b := g5 (Or.inr e.2)
      exact ⟨b.1.trans a.1, b.2.1.trans a.2.1, b.2.2.trans a.2.2⟩
  · cases L1 with
    | nil =>
      have r1 : τ1 fM_readings 0 0 = 0 := by rw [h4, z]; rfl
      have b := g6 r1 L R e
      exact ⟨b.1, b.2.1, fun i i0 i1 => by rw [b.2.2.1 i i0 i1]; exact h3 i i1, b.2.2.2⟩
    | cons X Y =>
      rw [List.cons_append] at e
      injection e with e1 e2
      subst e1
      have a := h6 z X Y rfl
      have b := g5 (Or.inl (by rw [h4, z, List.length_cons]; push_cast; omega))
      refine ⟨by rw [b.1]; exact a.1, by rw [b.2.1]; exact a.2.1, fun i i0 i1 => by rw [b.2.2]; exact a.2.2.1 i i0 i1, fun i hi => by rw [b.2.2]; exact a.2.2.2 i hi⟩
theorem PT_up {n kind c : Int} {τ τ' : ga_S} {Ls : List (List Int)} (hn : 0 ≤ n) (h : PT τ0 (n + 1) kind (ga_up τ fM_chunk 0 n c) τ' Ls) : PT τ0 n kind τ τ' (Ls.map (fun L => c :: L)) := by
  obtain ⟨h1, h2, h3, h4, h5, h6⟩ := h
  have u : ∀ F, F ≠ fM_chunk → (ga_up τ fM_chunk 0 n c) F = τ F := fun F hF => up_F hF τ 0 n c
  have ci : ∀ i, i < n → (ga_up τ fM_chunk 0 n c) fM_chunk 0 i = τ fM_chunk 0 i := fun i hi => by rw [up_at, if_neg (by omega)]
  rw [u fM_readings (by decide)] at h4 h5 h6
  refine ⟨fr_trans (fr_u (by decide)) h1, h2, fun i hi => (h3 i (by omega)).trans (ci i hi), by rw [h4, List.length_map], fun z => ?_, fun z L R e => ?_⟩
  · have a := h5 (z.imp_right (fun e => List.map_eq_nil_iff.mp e))
    rw [u _ (by decide), u _ (by decide), u _ (by decide)] at a
    exact a
  · cases Ls with
    | nil => cases e
    | cons X Y =>
      rw [List.map_cons] at e
      injection e with e1 e2
      subst e1
      have a := h6 z X Y rfl
      refine ⟨a.1, by rw [a.2.1, List.length_cons]; push_cast; omega, fun i i0 i1 => by rw [a.2.2.1 i i0 (by omega)]; exact ci i i1, fun i hi => ?_⟩
      cases i with
      | zero =>
        have b := a.2.2.1 n hn (by omega)
        rw [up_eq] at b
        simpa using b
      | succ i =>
        have b := a.2.2.2 i (by rw [List.length_cons] at hi; omega)
        rw [show n + ((i + 1 : Nat) : Int) = n + 1 + (i : Int) by push_cast; omega, b]
        rfl
theorem m_parted (E : E0 σ0 τ0 f N) {kind : Int} (hk : 0 ≤ kind ∧ kind < σ0 fW_kinds 0 0) (df : Bool) : ∀ (k : Nat) (a b n : Int) (τ : ga_S) (d : Nat), frB σ0 N a b → b - a ≤ k → 0 ≤ n → n + (b - a) ≤ 6 → KM τ0 τ → 0 ≤ τ fM_readings 0 0 → τ fM_readings 0 0 + ((rdF σ0 kind df k a b).length : Int) ≤ 2000000000 → 5 + k ≤ d → ∃ τ', c_m_parted d τ (f + a) (f + b) kind (b2i df) n = some (0, τ') ∧ PT τ0 n kind τ τ' (rdF σ0 kind df k a b) := by
  intro k
  induction k with
  | zero =>
    intro a b n τ d hb hk2 hn hn6 K h0 hB hd
    have e : a = b := by have := hb.2.1; push_cast at hk2; omega
    subst e
    rw [rdF_0] at hB ⊢
    obtain ⟨d, rfl⟩ : ∃ e, d = e + 1 := ⟨d - 1, by omega⟩
    rw [e_m_parted, if_pos rfl]
    by_cases z : τ fM_readings 0 0 = 0
    · obtain ⟨τ1, e1⟩ : ∃ x, x = ga_up (ga_up τ fM_readKind 0 0 kind) fM_readCount 0 0 n := ⟨_, rfl⟩
      have g1 : fr [fM_readKind, fM_readCount] τ τ1 := by rw [e1]; exact fr_trans (fr_u (by decide)) (fr_u (by decide))
      obtain ⟨τ2, e2⟩ : ∃ x, x = am_copy τ1 fM_chunk 0 0 fM_readAdjective 0 0 6 := ⟨_, rfl⟩
      have g2 : fr [fM_readAdjective] τ1 τ2 := by rw [e2]; exact am_copy_fr _ _ _ _ _ _ _ _
      have r2 : τ2 fM_readings 0 0 = 0 := by rw [g2 _ (by decide), g1 _ (by decide)]; exact z
      have g3 : fr [fM_readings] τ2 (ga_up τ2 fM_readings 0 0 1) := fr_u (by decide)
      rw [if_pos z, ← e1, s_cpy_rd (by omega), ← e2]
      simp only [Option.bind_some]
      rw [e_m_parted_38, r2, w32_ok (by omega), Int.zero_add]
      have G : fr ptM τ (ga_up τ2 fM_readings 0 0 1) := fr_trans (fr_sub g1 (by decide)) (fr_trans (fr_sub g2 (by decide)) (fr_sub g3 (by decide)))
      refine ⟨_, rfl, G, fr_trans K (fr_sub G (by decide)), fun i hi => by rw [g3 _ (by decide), g2 _ (by decide), g1 _ (by decide)], by rw [up_eq, z]; rfl, fun y => ?_, fun _ L R e => ?_⟩
      · rcases y with y | y
        · exact absurd z y
        · cases y
      · injection e with x1 x2
        subst x1
        refine ⟨?_, ?_, fun i i0 i1 => ?_, fun i hi => by simp at hi⟩
        · rw [g3 _ (by decide), g2 _ (by decide), e1, up_F (by decide), up_eq]
        · rw [g3 _ (by decide), g2 _ (by decide), e1, up_eq]; simp
        · rw [g3 _ (by decide), e2, am_copy_at _ _ _ _ _ _ _ _ (by omega), g1 _ (by decide), show i - 0 + 0 = i by omega]
    · have g3 : fr [fM_readings] τ (ga_up τ fM_readings 0 0 (τ fM_readings 0 0 + 1)) := fr_u (by decide)
      have G : fr ptM τ (ga_up τ fM_readings 0 0 (τ fM_readings 0 0 + 1)) := fr_sub g3 (by decide)
      rw [if_neg z, e_m_parted_38, w32_ok (by simp at hB; omega)]
      refine ⟨_, rfl, G, fr_trans K (fr_sub G (by decide)), fun i hi => by rw [g3 _ (by decide)], by rw [up_eq]; rfl, fun _ => ⟨g3 _ (by decide), g3 _ (by decide), g3 _ (by decide)⟩, fun y => absurd y z⟩
  | succ k ih =>
    intro a b n τ d hb hk2 hn hn6 K h0 hB hd
    by_cases eab : a = b
    · subst eab
      rw [rdF_0]
      have := ih a a n τ (d - 1) hb (by push_cast at *; omega) hn hn6 K h0 (by rw [rdF_0] at hB ⊢; exact hB) (by omega)
      rw [rdF_0] at this
      obtain ⟨τ', x1, x2⟩ := this
      exact ⟨τ', am_mono x1 (by omega), x2⟩
    · obtain ⟨d, rfl⟩ : ∃ e, d = e + 1 := ⟨d - 1, by omega⟩
      have i1 := hb.1
      have i2 := hb.2.1
      have i3 := hb.2.2.1
      have hf0 := E.1.1
      have hfN := E.1.2.1
      obtain ⟨G, eG⟩ : ∃ G : Int → List (List Int), G = fun m => if a + m ≤ b then (aL σ0 (nmT σ0 a (a + m)) kind false df).flatMap (fun c => (rdF σ0 kind df k (a + m) b).map (fun L => c :: L)) else [] := ⟨_, rfl⟩
      have eR : rdF σ0 kind df (k + 1) a b = (rg 1 4).flatMap G := by
        show (if a = b then [[]] else (rg 1 4).flatMap _) = _
        rw [if_neg eab, eG]
      rw [eR] at hB ⊢
      -- one chunk so many times
      have rep : ∀ (j : Nat) (m c v9 many : Int) (τ : ga_S), 1 ≤ m → m ≤ 3 → a + m ≤ b → 0 ≤ v9 → many = v9 + j → many ≤ 1000 → KM τ0 τ → 0 ≤ τ fM_readings 0 0 → τ fM_readings 0 0 + ((List.replicate j ((rdF σ0 kind df k (a + m) b).map (fun L => c :: L))).flatten.length : Int) ≤ 2000000000 → ∃ τ', m_parted_88 d τ (f + a) (f + b) kind (b2i df) n m many c v9 = m_parted_52 d τ' (f + a) (f + b) kind (b2i df) n (m + 1) ∧ PT τ0 n kind τ τ' (List.replicate j ((rdF σ0 kind df k (a + m) b).map (fun L => c :: L))).flatten := by
        intro j
        induction j with
        | zero =>
          intro m c v9 many τ m1 m3 mb v0 ev _ K h0 _
          refine ⟨τ, ?_, PT_0 K (fr_refl _ _)⟩
          rw [e_m_parted_88, if_neg (by omega), w32_ok (by omega)]
        | succ j ihj =>
          intro m c v9 many τ m1 m3 mb v0 ev hmany K h0 hB
          rw [List.replicate_succ, List.flatten_cons, List.length_append, List.length_map] at hB
          push_cast at hB ev
          have Ku : KM τ0 (ga_up τ fM_chunk 0 n c) := KM_f K (L := [fM_chunk]) (fr_u (by decide)) (by decide)
          have ru : (ga_up τ fM_chunk 0 n c) fM_readings 0 0 = τ fM_readings 0 0 := by rw [up_F (by decide)]
          obtain ⟨τ1, x1, x2⟩ := ih (a + m) b (n + 1) (ga_up τ fM_chunk 0 n c) d (frB_s hb (by omega) mb (Int.le_refl _)) (by push_cast at hk2; omega) (by omega) (by omega) Ku (by rw [ru]; exact h0) (by rw [ru]; omega) (by omega)
          have P1 := PT_up hn x2
          have r1 := P1.2.2.2.1
          rw [List.length_map] at r1
          obtain ⟨τ2, y1, y2⟩ := ihj m c (v9 + 1) many τ1 m1 m3 mb (by omega) (by omega) hmany P1.2.1 (by omega) (by omega)
          refine ⟨τ2, ?_, by rw [List.replicate_succ, List.flatten_cons]; exact PT_app h0 P1 y2⟩
          rw [e_m_parted_88, if_pos (by omega), ck_ok _ (by omega), w32_ok (x := f + a + m) (by omega), w32_ok (x := n + 1) (by omega), show f + a + m = f + (a + m) by omega, x1]
          simp only [Option.bind_some]
          rw [w32_ok (by omega)]
          exact y1
      have lp : ∀ m, 1 ≤ m → ∀ τ, KM τ0 τ → 0 ≤ τ fM_readings 0 0 → τ fM_readings 0 0 + (((rg m 4).flatMap G).length : Int) ≤ 2000000000 → ∃ τ', m_parted_52 d τ (f + a) (f + b) kind (b2i df) n m = some (0, τ') ∧ PT τ0 n kind τ τ' ((rg m 4).flatMap G) := by
        refine rg_ind (n := 4) ?_ ?_
        · intro m h m1 τ K h0 _
          rw [rg_n h]
          refine ⟨τ, ?_, PT_0 K (fr_refl _ _)⟩
          rw [e_m_parted_52, if_pos (by omega)]
        · intro m h ihm m1 τ K h0 hB
          rw [rg_s h, List.flatMap_cons, List.length_append] at hB
          push_cast at hB
          rw [rg_s h, List.flatMap_cons, e_m_parted_52, if_neg (by omega), w32_ok (x := f + a + m) (by omega)]
          by_cases mb : a + m ≤ b
          · have eg : G m = (aL σ0 (nmT σ0 a (a + m)) kind false df).flatMap (fun c => (rdF σ0 kind df k (a + m) b).map (fun L => c :: L)) := by rw [eG]; exact if_pos mb
            obtain ⟨al, eal⟩ : ∃ x, x = aL σ0 (nmT σ0 a (a + m)) kind false df := ⟨_, rfl⟩
            have ar := aL_rep σ0 (nmT σ0 a (a + m)) kind false df
            rw [← eal] at eg ar
            obtain ⟨τ1, y1, y2, y3, y4⟩ := m_adjective E K (a := a) (b := a + m) (t := f + a) (n := m) (frB_s hb (Int.le_refl _) (by omega) mb) rfl (by omega) hk df true (d := d) (by omega)
            rw [show (!true) = false from rfl, ← eal] at y1 y4
            rw [b2i_t] at y1
            have r1 : τ1 fM_readings 0 0 = τ fM_readings 0 0 := by rw [y2 _ (by decide)]
            have lal : (al.length : Int) ≤ 1000 := by
              rw [eal]
              unfold aL
              have w12 := (e0_p E).2.1
              split
              · split
                · simp
                · rw [List.length_replicate]
                  have : ((plV σ0 kind (fvN σ0 (nmT σ0 a (a + m)) false)).length : Int) ≤ 12 := by
                    unfold plV PL
                    have l1 := List.length_filter_le (fun p => decide (σ0 fW_propertyTypes 0 p = σ0 fW_valueTypes 0 (fvN σ0 (nmT σ0 a (a + m)) false)) && own σ0 kind p) (rg 0 (σ0 fW_properties 0 0))
                    have l2 := rg_len (n := σ0 fW_properties 0 0) 0
                    have w1 := (e0_p E).1
                    rw [if_pos (by omega)] at l2
                    omega
                  omega
              · split <;> simp
            have eg2 : G m = (List.replicate al.length ((rdF σ0 kind df k (a + m) b).map (fun L => al.headD 0 :: L))).flatten := by
              rw [eg]
              obtain ⟨j, ej⟩ : ∃ j, j = al.length := ⟨_, rfl⟩
              rw [← ej] at ar ⊢
              rw [ar]
              have hd0 : (List.replicate j (al.headD 0)).headD 0 = al.headD 0 := by
                cases j with
                | zero => cases al with
                  | nil => rfl
                  | cons x y => simp at ej
                | succ j => rfl
              rw [hd0]
              clear ar ej hd0
              induction j with
              | zero => rfl
              | succ j ihj => rw [List.replicate_succ, List.flatMap_cons, List.replicate_succ, List.flatten_cons, ihj]
            rw [if_neg (by omega), y1]
            simp only [Option.bind_some]
            have cd0 : al.length ≠ 0 → τ1 fM_foundAdjective 0 0 = al.headD 0 := fun z => y4 (fun w => z (by rw [w]; rfl))
            have rp := rep al.length m (τ1 fM_foundAdjective 0 0) 0 (al.length : Int) τ1 m1 (by omega) mb (Int.le_refl _) (by omega) lal y3 (by omega)
            have same : (List.replicate al.length ((rdF σ0 kind df k (a + m) b).map (fun L => τ1 fM_foundAdjective 0 0 :: L))).flatten = G m := by
              rw [eg2]
              cases hl : al.length with
              | zero => rfl
              | succ j => rw [cd0 (by omega)]
            rw [same] at rp
            obtain ⟨τ2, z1, z2⟩ := rp (by omega)
            have r2 := z2.2.2.2.1
            obtain ⟨τ3, w1, w2⟩ := ihm (by omega) τ2 z2.2.1 (by omega) (by omega)
            refine ⟨τ3, by rw [z1]; exact w1, ?_⟩
            have P0 : PT τ0 n kind τ τ1 [] := PT_0 K y2
            have := PT_app h0 P0 (PT_app (by omega) z2 w2)
            rw [List.nil_append] at this
            exact this
          · have eg : G m = [] := by rw [eG]; exact if_neg mb
            have eg' : (rg (m + 1) 4).flatMap G = [] := by
              apply List.flatMap_eq_nil_iff.mpr
              intro x hx
              have := (rg_mem (m + 1)).mp hx
              rw [eG]
              exact if_neg (by omega)
            rw [if_pos (by omega), eg, eg']
            exact ⟨τ, rfl, PT_0 K (fr_refl _ _)⟩
      rw [e_m_parted, if_neg (by omega)]
      exact lp 1 (Int.le_refl _) τ K h0 hB
end

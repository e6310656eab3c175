/-! names that must be new -/
theorem wdB_eq {B : Int → Int} {p q n : Int} : wdB B p n = wdB B q n ↔ ∀ j, 0 ≤ j → j < n → lowB (B (p + j)) = lowB (B (q + j)) := by
  unfold wdB
  exact map_rg_eq 0
theorem wT_eq {σ τ : ga_S} {f : Int} {N : Nat} (E : TOK σ τ f N) {a c : Int} (ha : 0 ≤ a ∧ a ≤ N) (hc : 0 ≤ c ∧ c ≤ N) : wT σ 0 a = wT σ 0 c ↔ (σ fT_lengths 0 a = σ fT_lengths 0 c ∧ ∀ j, 0 ≤ j → j < σ fT_lengths 0 a → lowB (σ fT_bytes 0 (σ fT_places 0 a + j)) = lowB (σ fT_bytes 0 (σ fT_places 0 c + j))) := by
  have la := wdB_len (B := σ fT_bytes 0) (p := σ fT_places 0 a) (E.2.1 a ha.1 ha.2).2.1
  have lc := wdB_len (B := σ fT_bytes 0) (p := σ fT_places 0 c) (E.2.1 c hc.1 hc.2).2.1
  unfold wT
  constructor
  · intro h
    have e : σ fT_lengths 0 a = σ fT_lengths 0 c := by rw [h] at la; omega
    rw [← e] at h
    exact ⟨e, wdB_eq.mp h⟩
  · intro ⟨e, h⟩
    rw [← e]
    exact wdB_eq.mpr h
theorem wsT_eq {σ : ga_S} {a b c e : Int} (hab : a ≤ b) (hce : c ≤ e) : wsT σ 0 a b = wsT σ 0 c e ↔ (b - a = e - c ∧ ∀ i, 0 ≤ i → i < b - a → wT σ 0 (a + i) = wT σ 0 (c + i)) := by
  have la := wsT_len (σ := σ) hab
  have lc := wsT_len (σ := σ) hce
  constructor
  · intro h
    rw [h] at la
    refine ⟨by omega, fun i h0 h1 => ?_⟩
    obtain ⟨i, rfl⟩ := Int.eq_ofNat_of_zero_le h0
    have g1 : (wsT σ 0 a b).getD i [] = wT σ 0 (a + i) := rg_getD (wT σ 0) [] i a b (by omega)
    have g2 : (wsT σ 0 c e).getD i [] = wT σ 0 (c + i) := rg_getD (wT σ 0) [] i c e (by omega)
    rw [← g1, ← g2, h]
  · intro ⟨h1, h2⟩
    have hl : (wsT σ 0 a b).length = (wsT σ 0 c e).length := by omega
    apply List.ext_getElem hl
    intro i i1 i2
    have g1 : (wsT σ 0 a b).getD i [] = wT σ 0 (a + i) := rg_getD (wT σ 0) [] i a b (by omega)
    have g2 : (wsT σ 0 c e).getD i [] = wT σ 0 (c + i) := rg_getD (wT σ 0) [] i c e (by omega)
    rw [List.getD_eq_getElem?_getD, List.getElem?_eq_getElem i1] at g1
    rw [List.getD_eq_getElem?_getD, List.getElem?_eq_getElem i2] at g2
    have := h2 i (by omega) (by omega)
    rw [← g1, ← g2] at this
    exact this
theorem rg_all {P : Int → Bool} {n i : Int} (h : i < n) : (rg i n).all P = (P i && (rg (i + 1) n).all P) := by rw [rg_s h, List.all_cons]
theorem rg_all0 {P : Int → Bool} {n i : Int} (h : n ≤ i) : (rg i n).all P = true := by rw [rg_n h]; rfl
theorem rg_allI {P : Int → Bool} {n i : Int} : (rg i n).all P = true ↔ ∀ j, i ≤ j → j < n → P j = true := by
  rw [List.all_eq_true]
  exact ⟨fun h j h1 h2 => h j ((rg_mem i).mpr ⟨h1, h2⟩), fun h j hj => h j ((rg_mem i).mp hj).1 ((rg_mem i).mp hj).2⟩
theorem b_false {b : Bool} (h : ¬ b = true) : b = false := by cases b <;> simp_all
section
variable {σ0 τ0 : ga_S} {f : Int} {N : Nat}
theorem k_isSame_70 {σ : ga_S} (E : E0 σ0 τ0 f N) (K : KC σ0 σ) {a b c k : Int} (ha : 0 ≤ a + k ∧ a + k < N) (hc : 0 ≤ c + k ∧ c + k < N) (hak : 0 ≤ a ∧ 0 ≤ c ∧ 0 ≤ k) (hl : σ0 fT_lengths 0 (a + k) = σ0 fT_lengths 0 (c + k)) {d : Nat} (hd : 1 ≤ d) : ∀ i, 0 ≤ i → ∀ s : Bool, r_isSame_70 d σ a b c (b2i s) k i = r_isSame_152 d σ a b c (b2i (s && (rg i (σ0 fT_lengths 0 (a + k))).all (fun j => decide (lowB (σ0 fT_bytes 0 (σ0 fT_places 0 (a + k) + j)) = lowB (σ0 fT_bytes 0 (σ0 fT_places 0 (c + k) + j)))))) k := by
  have hN := E.1.2.2.1
  have ta := E.2.1.2.1 (a + k) (by omega) (by omega)
  have tc := E.2.1.2.1 (c + k) (by omega) (by omega)
  have h5 := E.2.1.1.1
  have e1 : σ fT_lengths 0 = σ0 fT_lengths 0 := K.2.1 _ (by decide)
  have e2 : σ fT_places 0 = σ0 fT_places 0 := K.2.1 _ (by decide)
  have e3 : σ fT_bytes 0 = σ0 fT_bytes 0 := by rw [K.1 _ (by decide)]
  have e4 : σ fT_size 0 0 = σ0 fT_size 0 0 := by rw [K.1 _ (by decide)]
  refine rg_ind (n := σ0 fT_lengths 0 (a + k)) ?_ ?_
  · intro i h h0 s
    rw [e_r_isSame_70, w32_ok (x := a + k) (by omega), ck_ok _ (by omega), e1, if_neg (by omega), rg_all0 h, Bool.and_true]
  · intro i h ih h0 s
    rw [e_r_isSame_70, w32_ok (x := a + k) (by omega), ck_ok _ (by omega), e1, if_pos h]
    cases s with
    | false => rw [if_pos b2i_f]; rfl
    | true =>
      rw [if_neg b2i_n, ck_ok _ (by omega), e2, w32_ok (x := σ0 fT_places 0 (a + k) + i) (by omega), s_t_low hd (by omega) (by rw [e4]; omega) (by omega)]
      simp only [Option.bind_some]
      rw [w32_ok (x := c + k) (by omega), ck_ok _ (by omega), e2, w32_ok (x := σ0 fT_places 0 (c + k) + i) (by omega), s_t_low hd (by omega) (by rw [e4]; omega) (by omega)]
      simp only [Option.bind_some]
      rw [e4, if_pos (c := σ0 fT_places 0 (a + k) + i < σ0 fT_size 0 0) (by omega), if_pos (c := σ0 fT_places 0 (c + k) + i < σ0 fT_size 0 0) (by omega), e3, Bool.true_and]
      by_cases q : lowB (σ0 fT_bytes 0 (σ0 fT_places 0 (a + k) + i)) = lowB (σ0 fT_bytes 0 (σ0 fT_places 0 (c + k) + i))
      · have := ih (by omega) true
        rw [b2i_t, Bool.true_and] at this
        rw [if_pos q, e_r_isSame_144, w32_ok (x := i + 1) (by omega), this, rg_all h, decide_eq_true q, Bool.true_and]
      · have := ih (by omega) false
        rw [b2i_f, Bool.false_and] at this
        rw [if_neg q, e_r_isSame_144, w32_ok (x := i + 1) (by omega), this, rg_all h, decide_eq_false q, Bool.false_and]
theorem k_isSame {σ : ga_S} (E : E0 σ0 τ0 f N) (K : KC σ0 σ) {a b c e : Int} (ha : frB σ0 N a b) (hc : frB σ0 N c e) {d : Nat} (hd : 2 ≤ d) : c_r_isSame d σ a b c e = some (b2i (decide (wsT σ0 0 a b = wsT σ0 0 c e)), σ) := by
  obtain ⟨d, rfl⟩ : ∃ e, d = e + 1 := ⟨d - 1, by omega⟩
  have hN := E.1.2.2.1
  have a1 := ha.1
  have a2 := ha.2.1
  have a3 := ha.2.2.1
  have c1 := hc.1
  have c2 := hc.2.1
  have c3 := hc.2.2.1
  have e1 : σ fT_lengths 0 = σ0 fT_lengths 0 := K.2.1 _ (by decide)
  have L0 : ∀ k, 0 ≤ k → k ≤ b - a → r_isSame_20 d σ a b c 0 k = some (0, σ) := by
    intro k h0 h1
    rw [e_r_isSame_20, w32_ok (x := b - a) (by omega)]
    by_cases q : k < b - a
    · rw [if_pos q, if_pos rfl, z1_ok _ (by omega)]
    · rw [if_neg q, z1_ok _ (by omega)]
  by_cases q : b - a = e - c
  · have L : ∀ k, 0 ≤ k → k ≤ b - a → r_isSame_20 d σ a b c 1 k = some (b2i ((rg k (b - a)).all (fun i => decide (wT σ0 0 (a + i) = wT σ0 0 (c + i)))), σ) := by
      refine rg_ind (n := b - a) ?_ ?_
      · intro k h h0 h1
        rw [e_r_isSame_20, w32_ok (x := b - a) (by omega), if_neg (by omega), z1_ok _ (by omega), rg_all0 h]; rfl
      · intro k h ih h0 h1
        have W := wT_eq E.2.1 (a := a + k) (c := c + k) (by omega) (by omega)
        rw [e_r_isSame_20, w32_ok (x := b - a) (by omega), if_pos h, if_neg (by decide), w32_ok (x := a + k) (by omega), w32_ok (x := c + k) (by omega), ck_ok _ (by omega), ck_ok _ (by omega), e1]
        by_cases w : wT σ0 0 (a + k) = wT σ0 0 (c + k)
        · have w' := W.mp w
          have s7 := k_isSame_70 E K (a := a) (b := b) (c := c) (k := k) (by omega) (by omega) (by omega) w'.1 (d := d) (by omega) 0 (by omega) true
          rw [b2i_t, Bool.true_and, rg_allI.mpr (fun j h1 h2 => decide_eq_true (w'.2 j h1 h2)), b2i_t] at s7
          rw [if_pos w'.1, e_r_isSame_65, s7, e_r_isSame_152, w32_ok (x := k + 1) (by omega), ih (by omega) (by omega), rg_all h, decide_eq_true w, Bool.true_and]
        · have fin : r_isSame_152 d σ a b c 0 k = some (0, σ) := by rw [e_r_isSame_152, w32_ok (x := k + 1) (by omega), L0 (k + 1) (by omega) (by omega)]
          rw [rg_all h, decide_eq_false w, Bool.false_and, b2i_f]
          by_cases z : σ0 fT_lengths 0 (a + k) = σ0 fT_lengths 0 (c + k)
          · have s7 := k_isSame_70 E K (a := a) (b := b) (c := c) (k := k) (by omega) (by omega) (by omega) z (d := d) (by omega) 0 (by omega) true
            rw [b2i_t, Bool.true_and, b_false (fun g => w (W.mpr ⟨z, fun j h1 h2 => of_decide_eq_true (rg_allI.mp g j h1 h2)⟩)), b2i_f] at s7
            rw [if_pos z, e_r_isSame_65, s7, fin]
          · rw [if_neg z, e_r_isSame_65]
            have ta := E.2.1.2.1 (a + k) (by omega) (by omega)
            rw [e_r_isSame_70, w32_ok (x := a + k) (by omega), ck_ok _ (by omega)]
            by_cases y : 0 < σ fT_lengths 0 (a + k)
            · rw [if_pos y, if_pos rfl, fin]
            · rw [if_neg y, fin]
    rw [e_r_isSame, w32_ok (x := b - a) (by omega), w32_ok (x := e - c) (by omega), if_pos q, e_r_isSame_15, L 0 (Int.le_refl _) (by omega)]
    by_cases g : wsT σ0 0 a b = wsT σ0 0 c e
    · rw [decide_eq_true g, rg_allI.mpr (fun i h1 h2 => decide_eq_true (((wsT_eq a2 c2).mp g).2 i h1 h2))]
    · rw [decide_eq_false g, b_false (fun z => g ((wsT_eq a2 c2).mpr ⟨q, fun i h1 h2 => of_decide_eq_true (rg_allI.mp z i h1 h2)⟩))]
  · rw [e_r_isSame, w32_ok (x := b - a) (by omega), w32_ok (x := e - c) (by omega), if_neg q, e_r_isSame_15, L0 0 (Int.le_refl _) (by omega), decide_eq_false (fun g => q ((wsT_eq a2 c2).mp g).1)]
    rfl
/-- the names that were asked for, as words -/
def nwC (σ0 σ : ga_S) : List (List (List Int)) := (rg 0 (σ fR_newNames 0 0)).map (fun k => wsT σ0 0 (σ fR_newFrom 0 k) (σ fR_newTo 0 k))
def nwO (σ0 : ga_S) (N : Nat) (σ : ga_S) : Prop := 0 ≤ σ fR_newNames 0 0 ∧ ∀ k, 0 ≤ k → k < σ fR_newNames 0 0 → frB σ0 N (σ fR_newFrom 0 k) (σ fR_newTo 0 k)
def nB (σ0 : ga_S) (W : List (List Int)) (S : List (List (List Int))) : Bool := decide (W.length ≤ 3 ∧ fnd σ0 (jn W) 0 = -1 ∧ W ∉ S)
def nwL : List Nat := [fD_size, fD_spelled, fR_fault, fR_where, fR_rank, fR_newNames, fR_newFrom, fR_newTo]
theorem rg_any {P : Int → Bool} {n i : Int} (h : i < n) : (rg i n).any P = (P i || (rg (i + 1) n).any P) := by rw [rg_s h, List.any_cons]
theorem k_isNew_41 {σ : ga_S} (E : E0 σ0 τ0 f N) (K : KC σ0 σ) (hO : nwO σ0 N σ) (hn : σ fR_newNames 0 0 < 5000) {a b : Int} (h : frB σ0 N a b) (hv mo : Int) {d : Nat} (hd : 2 ≤ d) : ∀ k, 0 ≤ k → ∀ t : Bool, r_isNew_41 d σ a b hv mo (b2i t) k = r_isNew_83 d σ a b hv mo (b2i (t || (rg k (σ fR_newNames 0 0)).any (fun i => decide (wsT σ0 0 (σ fR_newFrom 0 i) (σ fR_newTo 0 i) = wsT σ0 0 a b)))) := by
  refine rg_ind (n := σ fR_newNames 0 0) ?_ ?_
  · intro k g h0 t
    rw [e_r_isNew_41, if_neg (by omega), rg_n g]
    simp
  · intro k g ih h0 t
    rw [e_r_isNew_41, if_pos g]
    cases t with
    | true => rw [if_neg b2i_n]; rfl
    | false =>
      rw [if_pos b2i_f, ck_ok _ (by omega), ck_ok _ (by omega), k_isSame E K (hO.2 k h0 g) h hd]
      simp only [Option.bind_some]
      rw [w32_ok (by omega), ih (by omega), rg_any g, Bool.false_or]
theorem k_isNew {σ : ga_S} (E : E0 σ0 τ0 f N) (K : KC σ0 σ) {c : Int} (hF : FT σ c) (hO : nwO σ0 N σ) (hn : σ fR_newNames 0 0 < 5000) {a b : Int} (h : frB σ0 N a b) (hv mo : Int) {d : Nat} (hd : 3 ≤ d) : ∃ σ', c_r_isNew d σ a b hv mo = some (0, σ') ∧ fr nwL σ σ' ∧ KC σ0 σ' ∧ FT σ' (min c (if nB σ0 (wsT σ0 0 a b) (nwC σ0 σ) = true then (if hv < mo then 1000000 else cd σ0 a 0) else cd σ0 a 1)) ∧ nwO σ0 N σ' ∧ σ' fR_newNames 0 0 = σ fR_newNames 0 0 + 1 ∧ nwC σ0 σ' = nwC σ0 σ ++ [wsT σ0 0 a b] := by
  obtain ⟨d, rfl⟩ : ∃ e, d = e + 1 := ⟨d - 1, by omega⟩
  have a1 := h.1
  have a2 := h.2.1
  have a3 := h.2.2.1
  have hN := E.1.2.2.1
  have h0 := hO.1
  obtain ⟨σ1, e1, e2, e3⟩ := k_spell E K h (d := d) (by omega)
  have K1 := KC_f K e2 (by decide)
  have F1 := FT_f hF e2 (by decide)
  have w1 : σ1 fR_newNames = σ fR_newNames := e2 _ (by decide)
  have w2 : σ1 fR_newFrom = σ fR_newFrom := e2 _ (by decide)
  have w3 : σ1 fR_newTo = σ fR_newTo := e2 _ (by decide)
  have O1 : nwO σ0 N σ1 := by unfold nwO; rw [w1, w2, w3]; exact hO
  have S1 : nwC σ0 σ1 = nwC σ0 σ := by unfold nwC; rw [w1, w2, w3]
  have sany : ∀ i : Int, (rg 0 (σ1 fR_newNames 0 0)).any (fun i => decide (wsT σ0 0 (σ1 fR_newFrom 0 i) (σ1 fR_newTo 0 i) = wsT σ0 0 a b)) = decide (wsT σ0 0 a b ∈ nwC σ0 σ) := by
    intro _
    rw [← S1]
    unfold nwC
    cases q : decide (wsT σ0 0 a b ∈ (rg 0 (σ1 fR_newNames 0 0)).map (fun k => wsT σ0 0 (σ1 fR_newFrom 0 k) (σ1 fR_newTo 0 k))) with
    | true =>
      obtain ⟨k, hk, ek⟩ := List.mem_map.mp (of_decide_eq_true q)
      exact List.any_eq_true.mpr ⟨k, hk, decide_eq_true ek⟩
    | false =>
      refine List.any_eq_false.mpr (fun k hk z => ?_)
      exact of_decide_eq_false q (List.mem_map.mpr ⟨k, hk, of_decide_eq_true z⟩)
  -- what follows the search
  have fin : ∀ (x : Int) (σ2 : ga_S), fr ntL σ1 σ2 → FT σ2 x → ∃ σ', r_isNew_110 d σ2 a b = some (0, σ') ∧ fr nwL σ σ' ∧ KC σ0 σ' ∧ FT σ' x ∧ nwO σ0 N σ' ∧ σ' fR_newNames 0 0 = σ fR_newNames 0 0 + 1 ∧ nwC σ0 σ' = nwC σ0 σ ++ [wsT σ0 0 a b] := by
    intro x σ2 g1 g2
    have v1 : σ2 fR_newNames = σ fR_newNames := (g1 _ (by decide)).trans w1
    have v2 : σ2 fR_newFrom = σ fR_newFrom := (g1 _ (by decide)).trans w2
    have v3 : σ2 fR_newTo = σ fR_newTo := (g1 _ (by decide)).trans w3
    have fr3 : fr [fR_newNames, fR_newFrom, fR_newTo] σ2 (ga_up (ga_up (ga_up σ2 fR_newFrom 0 (σ fR_newNames 0 0) a) fR_newTo 0 (σ fR_newNames 0 0) b) fR_newNames 0 0 (σ fR_newNames 0 0 + 1)) := fr_trans (fr_trans (fr_u (by decide)) (fr_u (by decide))) (fr_u (by decide))
    rw [e_r_isNew_110, v1, ck_ok _ (by omega), ck_ok _ (by omega), w32_ok (by omega)]
    refine ⟨_, rfl, fr_trans (fr_sub e2 (by decide)) (fr_trans (fr_sub g1 (by decide)) (fr_sub fr3 (by decide))), KC_f (KC_f K1 g1 (by decide)) fr3 (by decide), FT_f g2 fr3 (by decide), ?_, up_eq .., ?_⟩
    · unfold nwO
      rw [up_eq, up_F (F' := fR_newTo) (by decide), up_F (F' := fR_newFrom) (by decide), up_F (F' := fR_newFrom) (by decide)]
      refine ⟨by omega, fun k k0 k1 => ?_⟩
      rw [up_at, up_at, up_F (F' := fR_newTo) (by decide), v2, v3]
      by_cases q : k = σ fR_newNames 0 0
      · rw [if_pos q, if_pos q]; exact h
      · rw [if_neg q, if_neg q]; exact hO.2 k k0 (by omega)
    · unfold nwC
      rw [up_eq, up_F (F' := fR_newTo) (by decide), up_F (F' := fR_newFrom) (by decide), up_F (F' := fR_newFrom) (by decide), rg_snoc 0 h0, List.map_append]
      congr 1
      · apply List.map_congr_left
        intro k hk
        have m := (rg_mem 0).mp hk
        rw [up_at, up_at, up_F (F' := fR_newTo) (by decide), if_neg (by omega), if_neg (by omega), v2, v3]
      · rw [List.map_cons, List.map_nil, up_eq, up_eq]
  have srch : ∃ σ2, c_r_isNew (d + 1) σ a b hv mo = r_isNew_83 d σ2 a b hv mo (b2i (!nB σ0 (wsT σ0 0 a b) (nwC σ0 σ))) ∧ σ2 = σ1 := by
    refine ⟨σ1, ?_, rfl⟩
    have l := wsT_len (σ := σ0) a2
    rw [e_r_isNew, e1]
    simp only [Option.bind_some]
    rw [w32_ok (x := b - a) (by omega)]
    by_cases q1 : 3 < b - a
    · rw [if_pos q1, e_r_isNew_31, e_r_isNew_36]
      have s := k_isNew_41 E K1 O1 (by rw [w1]; exact hn) h hv mo (d := d) (by omega) 0 (Int.le_refl _) true
      rw [b2i_t] at s
      rw [s, Bool.true_or]
      unfold nB
      rw [decide_eq_false (fun z => by have := z.1; omega)]
      rfl
    · rw [if_neg q1, k_find E K1 e3 (by omega)]
      simp only [Option.bind_some]
      by_cases q2 : fnd σ0 (nmT σ0 a b) 0 = -1
      · have s := k_isNew_41 E K1 O1 (by rw [w1]; exact hn) h hv mo (d := d) (by omega) 0 (Int.le_refl _) false
        rw [b2i_f, Bool.false_or, sany 0] at s
        rw [if_pos q2, e_r_isNew_36, s]
        unfold nB
        by_cases q3 : wsT σ0 0 a b ∈ nwC σ0 σ
        · rw [decide_eq_true q3, decide_eq_false (fun z => z.2.2 q3)]; rfl
        · rw [decide_eq_false q3, decide_eq_true ⟨by omega, q2, q3⟩]; rfl
      · have s := k_isNew_41 E K1 O1 (by rw [w1]; exact hn) h hv mo (d := d) (by omega) 0 (Int.le_refl _) true
        rw [b2i_t] at s
        rw [if_neg q2, e_r_isNew_31, e_r_isNew_36, s, Bool.true_or]
        unfold nB
        rw [decide_eq_false (fun z => q2 z.2.1)]
        rfl
  obtain ⟨σ2, s1, rfl⟩ := srch
  rw [s1, e_r_isNew_83]
  cases q : nB σ0 (wsT σ0 0 a b) (nwC σ0 σ) with
  | true =>
    rw [Bool.not_true, if_pos b2i_f, if_pos rfl]
    by_cases z : hv < mo
    · rw [if_pos z, if_pos z]
      have := FT_le hF
      rw [show min c 1000000 = c by omega]
      exact fin c σ2 (fr_refl _ _) F1
    · obtain ⟨σ3, g1, g2, g3⟩ := k_note E.2.1 hN K1 F1 (t := a) (r := 0) (why := 9) (by omega) (by omega) (by decide) (d := d) (by omega)
      rw [if_neg z, if_neg z, g1]
      simp only [Option.bind_some]
      exact fin _ σ3 g2 g3
  | false =>
    obtain ⟨σ3, g1, g2, g3⟩ := k_note E.2.1 hN K1 F1 (t := a) (r := 1) (why := 3) (by omega) (by omega) (by decide) (d := d) (by omega)
    rw [Bool.not_false, if_neg b2i_n, if_neg (by decide), g1]
    simp only [Option.bind_some]
    exact fin _ σ3 g2 g3
end

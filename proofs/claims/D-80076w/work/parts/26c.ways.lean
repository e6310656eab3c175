/-! words parted into adjectives: the component -/
/-- none, one, or more: the same on both sides -/
def eq3 (x : Int) (l : Nat) : Prop := 0 ≤ x ∧ (x = 0 ↔ l = 0) ∧ (x = 1 ↔ l = 1)
theorem eq3_add {x y : Int} {l m : Nat} (h : eq3 x l) (g : eq3 y m) : eq3 (x + y) (l + m) := by
  unfold eq3 at *
  omega
theorem eq3_mul {x y : Int} {l m : Nat} (h : eq3 x l) (g : eq3 y m) : eq3 (x * y) (l * m) := by
  obtain ⟨h0, h1, h2⟩ := h
  obtain ⟨g0, g1, g2⟩ := g
  by_cases a : x = 0
  · have := h1.mp a
    rw [a, this]
    exact ⟨by omega, by omega, by omega⟩
  · by_cases b : y = 0
    · have := g1.mp b
      rw [b, this]
      exact ⟨by omega, by omega, by omega⟩
    · by_cases c : x = 1
      · rw [c, h2.mp c, Int.one_mul, Nat.one_mul]; exact ⟨g0, g1, g2⟩
      · by_cases d : y = 1
        · rw [d, g2.mp d, Int.mul_one, Nat.mul_one]; exact ⟨h0, h1, h2⟩
        · have hl : 2 ≤ l := by omega
          have hm : 2 ≤ m := by omega
          have p1 : 2 * 2 ≤ x * y := Int.mul_le_mul (by omega) (by omega) (by omega) (by omega)
          have p2 : 2 * 2 ≤ l * m := Nat.mul_le_mul hl hm
          exact ⟨by omega, by omega, by omega⟩
theorem fm_len (l : List Int) (R : List (List Int)) : (l.flatMap (fun c => R.map (fun L => c :: L))).length = l.length * R.length := by
  induction l with
  | nil => simp
  | cons c r ih => rw [List.flatMap_cons, List.length_append, ih, List.length_map, List.length_cons, Nat.succ_mul, Nat.add_comm]
/-- what the component keeps for a code of the model -/
def rdR (w v c : Int) : Prop := (v = -1 ∧ c = w ∧ 0 ≤ w ∧ w < 24) ∨ (0 ≤ v ∧ v < 64 ∧ c = 100 + 100 * v + w ∧ 0 ≤ w ∧ w < 12)
section
variable {σ0 τ0 : ga_S} {f : Int} {N : Nat}
theorem fvN_r (E : E0 σ0 τ0 f N) (nm : List Int) (nv : Bool) : fvN σ0 nm nv = -1 ∨ (0 ≤ fvN σ0 nm nv ∧ fvN σ0 nm nv < σ0 fW_values 0 0) := by
  have r4 := e0_dN E nm 4
  have m4 : mxN σ0 4 = σ0 fW_values 0 0 := rfl
  unfold fvN
  cases nv with
  | true => exact Or.inl rfl
  | false => rw [if_neg (by decide)]; omega
theorem aC_L (E : E0 σ0 τ0 f N) (nm : List Int) (kind : Int) (nv df : Bool) : eq3 (aC σ0 nm kind nv df) (aL σ0 nm kind nv df).length ∧ aC σ0 nm kind nv df ≤ 2 ∧ (∀ c, aL σ0 nm kind nv df = [c] → rdR (if dN σ0 nm 3 = -1 then aP σ0 nm kind nv else dN σ0 nm 3) (if dN σ0 nm 3 = -1 then fvN σ0 nm nv else -1) c) := by
  have wa := (e0_a E).2.1
  have wv := (e0_v E).2.1
  have wp := (e0_p E).2.1
  have r3 := e0_dN E nm 3
  have m3 : mxN σ0 3 = σ0 fW_adjectives 0 0 := rfl
  have rv := fvN_r E nm nv
  by_cases c1 : dN σ0 nm 3 = -1
  · rw [if_pos c1, if_pos c1]
    by_cases c2 : fvN σ0 nm nv = -1
    · have eC : aC σ0 nm kind nv df = 0 := by unfold aC; rw [if_pos c1, if_pos c2]
      have eL : aL σ0 nm kind nv df = [] := by unfold aL; rw [if_pos c1, if_pos c2]
      rw [eC, eL]
      exact ⟨⟨by omega, by simp, by simp⟩, by omega, fun c e => by cases e⟩
    · obtain ⟨v, ev⟩ : ∃ x, x = fvN σ0 nm nv := ⟨_, rfl⟩
      obtain ⟨l, el⟩ : ∃ x, x = plV σ0 kind v := ⟨_, rfl⟩
      have eC : aC σ0 nm kind nv df = (if po1 (-1) l = -1 then 0 else if po1 (-1) l = -2 then 2 else 1) := by unfold aC; rw [if_pos c1, if_neg c2, ← ev, ← el]
      have eL : aL σ0 nm kind nv df = List.replicate l.length (100 + 100 * v + l.headD (-1)) := by unfold aL; rw [if_pos c1, if_neg c2, ← ev, ← el]
      have eP : aP σ0 nm kind nv = po1 (-1) l := by unfold aP; rw [if_pos ⟨c1, c2⟩, ← ev, ← el]
      have mm : ∀ p, p ∈ l → 0 ≤ p ∧ p < σ0 fW_properties 0 0 := fun p hp => PL_mem (by rw [el] at hp; exact hp)
      rw [eC, eL, eP, ← ev, List.length_replicate]
      rw [← ev] at rv c2
      rcases po1_v (l := l) (fun p hp => (mm p hp).1) with ⟨e1, e2⟩ | ⟨p, e1, e2, e3⟩ | ⟨e1, e2⟩
      · rw [e2, if_pos rfl, e1]
        exact ⟨⟨by omega, by simp, by simp⟩, by omega, fun c e => by cases e⟩
      · have pm := mm p (by rw [e1]; exact List.mem_cons_self ..)
        rw [e3, if_neg (by omega), if_neg (by omega), e1]
        refine ⟨⟨by omega, by simp, by simp⟩, by omega, fun c e => ?_⟩
        have e' : 100 + 100 * v + p = c := by
          injection e
        exact Or.inr ⟨by omega, by omega, by omega, by omega, by omega⟩
      · rw [e2, if_neg (by decide), if_pos rfl]
        refine ⟨⟨by omega, by omega, by omega⟩, by omega, fun c e => ?_⟩
        have := congrArg List.length e
        rw [List.length_replicate] at this
        simp at this
        omega
  · rw [if_neg c1, if_neg c1]
    have eC : aC σ0 nm kind nv df = (if fitA σ0 kind (dN σ0 nm 3) df = true then 1 else 0) := by unfold aC; rw [if_neg c1]
    have eL : aL σ0 nm kind nv df = (if fitA σ0 kind (dN σ0 nm 3) df = true then [dN σ0 nm 3] else []) := by unfold aL; rw [if_neg c1]
    rw [eC, eL]
    by_cases c2 : fitA σ0 kind (dN σ0 nm 3) df = true
    · rw [if_pos c2, if_pos c2]
      refine ⟨⟨by omega, by simp, by simp⟩, by omega, fun c e => ?_⟩
      have e' : dN σ0 nm 3 = c := by injection e
      exact Or.inl ⟨rfl, by omega, by omega, by omega⟩
    · rw [if_neg c2, if_neg c2]
      exact ⟨⟨by omega, by simp, by simp⟩, by omega, fun c e => by cases e⟩
/-- more than three words mean nothing -/
theorem aL_3 (E : E0 σ0 τ0 f N) {a b : Int} (h : frB σ0 N a b) (h3 : 3 < b - a) (kind : Int) (nv df : Bool) : aL σ0 (nmT σ0 a b) kind nv df = [] := by
  have l := wsT_len (σ := σ0) h.2.1
  have z := RD_none E.2.2.1 (wsT_W E.2.1 h) (Or.inr (by omega))
  have d3 : ∀ s, dN σ0 (nmT σ0 a b) s = -1 := fun s => by unfold dN nmT; rw [if_pos (Or.inl z)]
  have v4 : fvN σ0 (nmT σ0 a b) nv = -1 := by unfold fvN; rw [d3]; split <;> rfl
  unfold aL
  rw [if_pos (d3 3), if_pos v4]
def wyL : List Nat := [fD_size, fD_spelled, fR_foundAdjective, fR_foundValue, fR_foundProperty, fR_described, fR_describedWhich, fR_describedValue]
def sameD (σ σ' : ga_S) : Prop := σ' fR_described = σ fR_described ∧ σ' fR_describedWhich = σ fR_describedWhich ∧ σ' fR_describedValue = σ fR_describedValue
/-- T ways were found from σ to σ', behind n adjectives -/
def WY (σ0 : ga_S) (n : Int) (σ σ' : ga_S) (T : Int) (Ls : List (List Int)) : Prop := fr wyL σ σ' ∧ KC σ0 σ' ∧ eq3 T Ls.length ∧ (∀ i, i < n → σ' fR_describedWhich 0 i = σ fR_describedWhich 0 i ∧ σ' fR_describedValue 0 i = σ fR_describedValue 0 i) ∧ (T = 0 → sameD σ σ') ∧ (∀ L, Ls = [L] → (∀ i : Nat, i < L.length → rdR (σ' fR_describedWhich 0 (n + i)) (σ' fR_describedValue 0 (n + i)) (L.getD i 0)) ∧ σ' fR_described 0 0 = if L = [] then σ fR_described 0 0 else max (σ fR_described 0 0) (n + (L.length : Int)))
theorem WY_ad {n : Int} {σ σ1 σ2 : ga_S} {T : Int} {Ls : List (List Int)} (h : WY σ0 n σ σ1 T Ls) (h2 : fr wyL σ1 σ2) (K : KC σ0 σ2) (s : sameD σ1 σ2) : WY σ0 n σ σ2 T Ls := by
  obtain ⟨h1, h2', h3, h4, h5, h6⟩ := h
  refine ⟨fr_trans h1 h2, K, h3, fun i hi => ?_, fun z => ?_, fun L e => ?_⟩
  · rw [s.2.1, s.2.2]; exact h4 i hi
  · have := h5 z
    exact ⟨s.1.trans this.1, s.2.1.trans this.2.1, s.2.2.trans this.2.2⟩
  · rw [s.1, s.2.1, s.2.2]; exact h6 L e
theorem k_ways (E : E0 σ0 τ0 f N) {kind : Int} (hk : 0 ≤ kind ∧ kind < σ0 fW_kinds 0 0) (df : Bool) : ∀ (k : Nat) (a b n : Int) (σ : ga_S) (d : Nat), frB σ0 N a b → b - a ≤ k → k ≤ 6 → 0 ≤ n → n + (b - a) ≤ 6 → KC σ0 σ → 6 + k ≤ d → ∃ T σ', c_r_ways d σ a b kind n (b2i df) = some (T, σ') ∧ WY σ0 n σ σ' T (rdF σ0 kind df k a b) ∧ T ≤ 20 ^ k := by
  intro k
  have base : ∀ (k : Nat) (a n : Int) (σ : ga_S) (d : Nat), KC σ0 σ → 1 ≤ d → ∃ T σ', c_r_ways d σ a a kind n (b2i df) = some (T, σ') ∧ WY σ0 n σ σ' T (rdF σ0 kind df k a a) ∧ T ≤ 20 ^ k := by
    intro k a n σ d K hd
    obtain ⟨d, rfl⟩ : ∃ e, d = e + 1 := ⟨d - 1, by omega⟩
    rw [rdF_0, e_r_ways, if_pos rfl]
    refine ⟨1, σ, rfl, ⟨fr_refl _ _, K, ⟨by omega, by simp, by simp⟩, fun i _ => ⟨rfl, rfl⟩, fun z => by omega, fun L e => ?_⟩, ?_⟩
    · injection e with e1
      subst e1
      exact ⟨fun i hi => by simp at hi, by rw [if_pos rfl]⟩
    · have : (0 : Int) < 20 ^ k := Int.pow_pos (by decide)
      omega
  induction k with
  | zero =>
    intro a b n σ d hb hk2 _ hn hn6 K hd
    have e : a = b := by have := hb.2.1; push_cast at hk2; omega
    subst e
    exact base 0 a n σ d K (by omega)
  | succ k ih =>
    intro a b n σ d hb hk2 hk6 hn hn6 K hd
    by_cases eab : a = b
    · subst eab
      exact base (k + 1) a n σ d K (by omega)
    · obtain ⟨d, rfl⟩ : ∃ e, d = e + 1 := ⟨d - 1, by omega⟩
      have i1 := hb.1
      have i2 := hb.2.1
      have i3 := hb.2.2.1
      have hN5 := E.1.2.2.1
      push_cast at hk2
      obtain ⟨G, eG⟩ : ∃ G : Int → List (List Int), G = fun m => if a + m ≤ b then (aL σ0 (nmT σ0 a (a + m)) kind false df).flatMap (fun c => (rdF σ0 kind df k (a + m) b).map (fun L => c :: L)) else [] := ⟨_, rfl⟩
      have eR : rdF σ0 kind df (k + 1) a b = (rg 1 4).flatMap G := by
        show (if a = b then [[]] else (rg 1 4).flatMap _) = _
        rw [if_neg eab, eG]
      rw [eR]
      have p20 : (0 : Int) < 20 ^ k := Int.pow_pos (by decide)
      have p64 : (20 : Int) ^ k ≤ 20 ^ 5 := ipow_le (by decide) (by omega)
      have e64 : (20 : Int) ^ 5 = 3200000 := by decide
      obtain ⟨P, eP⟩ : ∃ P : Int, P = 20 ^ k := ⟨_, rfl⟩
      rw [← eP] at p20 p64
      have lp : ∀ e, a + 1 ≤ e → e ≤ b + 1 → ∀ (σ1 : ga_S) (all : Int) (Lp : List (List Int)), WY σ0 n σ σ1 all Lp → all ≤ 2 * (e - a - 1) * P → ∃ T σ', r_ways_15 d σ1 a b kind n (b2i df) all e = some (T, σ') ∧ WY σ0 n σ σ' T (Lp ++ (rg (e - a) 4).flatMap G) ∧ T ≤ 2 * (b - a) * P := by
        refine rg_ind (n := b + 1) ?_ ?_
        · intro e h e1 e2 σ1 all Lp W hall
          have ee : e = b + 1 := by omega
          have gl : (rg (e - a) 4).flatMap G = [] := by
            apply List.flatMap_eq_nil_iff.mpr
            intro x hx
            have := (rg_mem (e - a)).mp hx
            rw [eG]
            exact if_neg (by omega)
          rw [e_r_ways_15, if_pos (by omega), gl, List.append_nil]
          exact ⟨all, σ1, rfl, W, by rw [ee] at hall; rw [show b + 1 - a - 1 = b - a by omega] at hall; exact hall⟩
        · intro e h ihe e1 e2 σ1 all Lp W hall
          have all0 := W.2.2.1.1
          have bnd : 2 * (e - a - 1) * P + 2 * P = 2 * (e + 1 - a - 1) * P := by
            rw [show 2 * (e + 1 - a - 1) = 2 * (e - a - 1) + 2 by omega, Int.add_mul]
          have bnd2 : all ≤ 2 * (e + 1 - a - 1) * P := by omega
          have big : 2 * (e - a - 1) * P ≤ 2 * 6 * 3200000 := by
            have x : 2 * (e - a - 1) ≤ 2 * 6 := by omega
            exact Int.mul_le_mul x (by omega) (by omega) (by omega)
          obtain ⟨σ2, b1, b2, b3, b4, b5, b6⟩ := k_adjective E W.2.1 (a := a) (b := e) (frB_s hb (Int.le_refl _) (by omega) (by omega)) hk false df (d := d) (by omega)
          rw [b2i_f] at b1
          obtain ⟨A1, A2, A3⟩ := aC_L E (nmT σ0 a e) kind false df
          obtain ⟨one, eone⟩ : ∃ x, x = aC σ0 (nmT σ0 a e) kind false df := ⟨_, rfl⟩
          obtain ⟨al, eal⟩ : ∃ x, x = aL σ0 (nmT σ0 a e) kind false df := ⟨_, rfl⟩
          rw [← eone] at b1 A1 A2
          rw [← eal] at A1 A3
          have sD2 : sameD σ1 σ2 := ⟨b2 _ (by decide), b2 _ (by decide), b2 _ (by decide)⟩
          have W2 := WY_ad W (fr_sub b2 (by decide)) b3 sD2
          have rest : (rg (e - a) 4).flatMap G = al.flatMap (fun c => (rdF σ0 kind df k e b).map (fun L => c :: L)) ++ (rg (e + 1 - a) 4).flatMap G := by
            by_cases m3 : e - a < 4
            · rw [rg_s m3, List.flatMap_cons, show e - a + 1 = e + 1 - a by omega]
              congr 1
              rw [eG, eal]
              show (if a + (e - a) ≤ b then _ else _) = _
              rw [if_pos (by omega), show a + (e - a) = e by omega]
            · have z := aL_3 E (a := a) (b := e) (frB_s hb (Int.le_refl _) (by omega) (by omega)) (by omega) kind false df
              rw [rg_n (by omega), rg_n (by omega), eal, z]; rfl
          rw [e_r_ways_15, if_neg (by omega), b1]
          simp only [Option.bind_some]
          by_cases c1 : 0 < one
          · rw [if_pos c1]
            obtain ⟨w, ew⟩ : ∃ x : Int, x = (if dN σ0 (nmT σ0 a e) 3 = -1 then aP σ0 (nmT σ0 a e) kind false else dN σ0 (nmT σ0 a e) 3) := ⟨_, rfl⟩
            obtain ⟨v, ev⟩ : ∃ x : Int, x = (if dN σ0 (nmT σ0 a e) 3 = -1 then fvN σ0 (nmT σ0 a e) false else -1) := ⟨_, rfl⟩
            rw [← ew, ← ev] at A3
            have s76 : (if σ2 fR_foundAdjective 0 0 = -1 then r_ways_58 d σ2 a b kind n (b2i df) all e one (σ2 fR_foundProperty 0 0) else r_ways_58 d σ2 a b kind n (b2i df) all e one (σ2 fR_foundAdjective 0 0)) = r_ways_76 d σ2 a b kind n (b2i df) all e one w v := by
              rw [b4, b6]
              by_cases q : dN σ0 (nmT σ0 a e) 3 = -1
              · rw [if_pos q] at ew ev
                rw [if_pos q, e_r_ways_58, b4, if_pos q, b5, ew, ev]
              · rw [if_neg q] at ew ev
                rw [if_neg q, e_r_ways_58, b4, if_neg q, ew, ev]
            rw [s76]
            obtain ⟨Tr, σ3, g1, g2, g3⟩ := ih e b (n + 1) σ2 d (frB_s hb (by omega) (by omega) (Int.le_refl _)) (by omega) (by omega) (by omega) (by omega) b3 (by omega)
            rw [← eP] at g3
            rw [e_r_ways_76, w32_ok (by omega), g1]
            simp only [Option.bind_some]
            have Tr0 := g2.2.2.1.1
            have fG : eq3 (one * Tr) (al.flatMap (fun c => (rdF σ0 kind df k e b).map (fun L => c :: L))).length := by rw [fm_len]; exact eq3_mul A1 g2.2.2.1
            by_cases c2 : 0 < Tr
            · have ot : one * Tr ≤ 2 * P := Int.mul_le_mul A2 g3 Tr0 (by omega)
              have ot0 : 0 < one * Tr := Int.mul_pos c1 c2
              have t1 : all + one * Tr ≤ 2 * (e + 1 - a - 1) * P := by omega
              rw [if_pos c2]
              have s137 : ∀ ρ, r_ways_137 d ρ a b kind n (b2i df) all e one Tr = r_ways_15 d ρ a b kind n (b2i df) (all + one * Tr) (e + 1) := by
                intro ρ
                rw [e_r_ways_137, e_r_ways_147, w32_ok (x := one * Tr) (by omega), w32_ok (x := all + one * Tr) (by omega), w32_ok (x := e + 1) (by omega)]
              by_cases c3 : all = 0
              · obtain ⟨m', em'⟩ : ∃ x : Int, x = (if σ3 fR_described 0 0 < n + 1 then n + 1 else σ3 fR_described 0 0) := ⟨_, rfl⟩
                obtain ⟨σ4, e4⟩ : ∃ x, x = ga_up (ga_up (ga_up σ3 fR_describedWhich 0 n w) fR_describedValue 0 n v) fR_described 0 0 m' := ⟨_, rfl⟩
                have f4 : fr [fR_describedWhich, fR_describedValue, fR_described] σ3 σ4 := by rw [e4]; exact fr_trans (fr_trans (fr_u (by decide)) (fr_u (by decide))) (fr_u (by decide))
                have hw4 : ∀ i, σ4 fR_describedWhich 0 i = if i = n then w else σ3 fR_describedWhich 0 i := fun i => by rw [e4, up_F (by decide), up_F (by decide), up_at]
                have hv4 : ∀ i, σ4 fR_describedValue 0 i = if i = n then v else σ3 fR_describedValue 0 i := fun i => by rw [e4, up_F (by decide), up_at, up_F (by decide)]
                have d4 : σ4 fR_described 0 0 = m' := by rw [e4, up_eq]
                have lp0 : Lp = [] := by have := W.2.2.1.2.1.mp c3; exact List.length_eq_zero_iff.mp this
                have sd := W2.2.2.2.2.1 c3
                have W4 : WY σ0 n σ σ4 (all + one * Tr) (Lp ++ al.flatMap (fun c => (rdF σ0 kind df k e b).map (fun L => c :: L))) := by
                  rw [c3, lp0, Int.zero_add, List.nil_append]
                  refine ⟨fr_trans W2.1 (fr_trans g2.1 (fr_sub f4 (by decide))), KC_f g2.2.1 f4 (by decide), fG, fun i hi => ?_, fun z => by omega, fun L eL => ?_⟩
                  · have x := g2.2.2.2.1 i (by omega)
                    have y := W2.2.2.2.1 i hi
                    rw [hw4, hv4, if_neg (by omega), if_neg (by omega), x.1, x.2]; exact y
                  · have len1 : al.length * (rdF σ0 kind df k e b).length = 1 := by rw [← fm_len, eL]; rfl
                    have l1 : al.length = 1 := Nat.eq_one_of_mul_eq_one_right len1
                    have l2 : (rdF σ0 kind df k e b).length = 1 := by rw [l1, Nat.one_mul] at len1; exact len1
                    obtain ⟨c, hc⟩ := List.length_eq_one_iff.mp l1
                    obtain ⟨L', hL'⟩ := List.length_eq_one_iff.mp l2
                    rw [hc, hL'] at eL
                    have eL2 : c :: L' = L := by
                      simp at eL
                      exact eL
                    have u := g2.2.2.2.2.2 L' hL'
                    refine ⟨fun i hi => ?_, ?_⟩
                    · rw [← eL2] at hi ⊢
                      cases i with
                      | zero =>
                        rw [hw4, hv4, if_pos (by simp), if_pos (by simp)]
                        exact A3 c hc
                      | succ i =>
                        have y := u.1 i (by rw [List.length_cons] at hi; omega)
                        rw [hw4, hv4, if_neg (by push_cast; omega), if_neg (by push_cast; omega), show n + ((i + 1 : Nat) : Int) = n + 1 + (i : Int) by push_cast; omega]
                        exact y
                    · have u2 := u.2
                      rw [sd.1] at u2
                      have em2 : m' = max (σ3 fR_described 0 0) (n + 1) := by
                        rw [em']
                        by_cases q : σ3 fR_described 0 0 < n + 1
                        · rw [if_pos q]; omega
                        · rw [if_neg q]; omega
                      rw [d4, em2, ← eL2, if_neg (c := c :: L' = []) (by simp), List.length_cons]
                      by_cases q : L' = []
                      · rw [if_pos q] at u2
                        rw [u2, q]
                        rfl
                      · rw [if_neg q] at u2
                        rw [u2]
                        push_cast
                        omega
                obtain ⟨T, σ', x1, x2, x3⟩ := ihe (by omega) (by omega) σ4 (all + one * Tr) _ W4 t1
                refine ⟨T, σ', ?_, ?_, x3⟩
                · rw [if_pos c3, ck_ok _ (by omega), ck_ok _ (by omega), s_p_max (by omega)]
                  simp only [Option.bind_some]
                  rw [← em', ← e4, s137]
                  exact x1
                · rw [rest, ← List.append_assoc]; exact x2
              · have W4 : WY σ0 n σ σ3 (all + one * Tr) (Lp ++ al.flatMap (fun c => (rdF σ0 kind df k e b).map (fun L => c :: L))) := by
                  have q3 := eq3_add W2.2.2.1 fG
                  refine ⟨fr_trans W2.1 g2.1, g2.2.1, by rw [List.length_append]; exact q3, fun i hi => ?_, fun z => by omega, fun L eL => ?_⟩
                  · have x := g2.2.2.2.1 i (by omega)
                    have y := W2.2.2.2.1 i hi
                    rw [x.1, x.2]; exact y
                  · exfalso
                    have := congrArg List.length eL
                    rw [List.length_append] at this
                    have z1 := W2.2.2.1.2.1
                    have z2 := fG.2.1
                    simp only [List.length_cons, List.length_nil] at this
                    omega
                obtain ⟨T, σ', x1, x2, x3⟩ := ihe (by omega) (by omega) σ3 (all + one * Tr) _ W4 t1
                refine ⟨T, σ', ?_, ?_, x3⟩
                · rw [if_neg c3, s137]
                  exact x1
                · rw [rest, ← List.append_assoc]; exact x2
            · have t0 : Tr = 0 := by omega
              have W4 := WY_ad W2 g2.1 g2.2.1 (g2.2.2.2.2.1 t0)
              obtain ⟨T, σ', x1, x2, x3⟩ := ihe (by omega) (by omega) σ3 all Lp W4 bnd2
              have nil : al.flatMap (fun c => (rdF σ0 kind df k e b).map (fun L => c :: L)) = [] := by
                have z := fG.2.1.mp (by rw [t0, Int.mul_zero])
                exact List.length_eq_zero_iff.mp z
              rw [if_neg c2, e_r_ways_147, w32_ok (by omega), rest, nil, List.nil_append]
              exact ⟨T, σ', x1, x2, x3⟩
          · have o0 : one = 0 := by have := A1.1; omega
            have anil : al = [] := List.length_eq_zero_iff.mp (A1.2.1.mp o0)
            obtain ⟨T, σ', x1, x2, x3⟩ := ihe (by omega) (by omega) σ2 all Lp W2 bnd2
            rw [if_neg c1, e_r_ways_147, w32_ok (by omega), rest, anil, List.flatMap_nil, List.nil_append]
            exact ⟨T, σ', x1, x2, x3⟩
      have W0 : WY σ0 n σ σ 0 [] := ⟨fr_refl _ _, K, ⟨by omega, by simp, by simp⟩, fun i _ => ⟨rfl, rfl⟩, fun _ => ⟨rfl, rfl, rfl⟩, fun L e => by cases e⟩
      obtain ⟨T, σ', x1, x2, x3⟩ := lp (a + 1) (Int.le_refl _) (by omega) σ 0 [] W0 (by rw [show a + 1 - a - 1 = 0 by omega]; simp)
      rw [List.nil_append, show a + 1 - a = 1 by omega] at x2
      refine ⟨T, σ', ?_, x2, ?_⟩
      · rw [e_r_ways, if_neg eab, w32_ok (by omega)]; exact x1
      · rw [Int.pow_succ, ← eP]
        have : 2 * (b - a) * P ≤ 12 * P := Int.mul_le_mul_of_nonneg_right (by omega) (by omega)
        omega
end

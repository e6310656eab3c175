/-! lists of objects, component -/
/-- where a name of a list ends -/
def sgE (σ : ga_S) (to k : Int) : Int := sk (fun q => decide (σ fT_kinds 0 q ≠ 25 ∧ σ fT_kinds 0 q ≠ 4)) to k
/-- where the next one begins -/
def sgN (σ : ga_S) (to j : Int) : Int := if σ fT_kinds 0 j = 4 ∧ j + 1 < to ∧ σ fT_kinds 0 (j + 1) = 25 then j + 2 else j + 1
def sgO (σ : ga_S) (kind to k : Int) : Bool := decide (obV σ k (sgE σ to k) ≠ -1) && isB (σ fW_parents 0) (σ fW_kindOf 0 (obV σ k (sgE σ to k))) kind
/-- the objects of a list -/
def liR (σ : ga_S) (kind to : Int) : Nat → Int → Option (List Int)
  | 0, _ => none
  | n + 1, k => if sgO σ kind to k = true then (if sgE σ to k < to then (liR σ kind to n (sgN σ to (sgE σ to k))).map (fun L => obV σ k (sgE σ to k) :: L) else some [obV σ k (sgE σ to k)]) else none
theorem sgE_r (σ : ga_S) {to k : Int} (h : k ≤ to) : k ≤ sgE σ to k ∧ sgE σ to k ≤ to ∧ (sgE σ to k < to → σ fT_kinds 0 (sgE σ to k) = 25 ∨ σ fT_kinds 0 (sgE σ to k) = 4) ∧ (∀ q, k ≤ q → q < sgE σ to k → σ fT_kinds 0 q ≠ 25 ∧ σ fT_kinds 0 q ≠ 4) := by
  have s := sk_all (f := fun q => decide (σ fT_kinds 0 q ≠ 25 ∧ σ fT_kinds 0 q ≠ 4)) (n := to) k
  refine ⟨s.1, s.2.1 h, fun z => ?_, fun q x y => of_decide_eq_true (s.2.2.2 q x y)⟩
  have := of_decide_eq_false (s.2.2.1 z)
  exact Classical.byContradiction fun v => this ⟨fun u => v (Or.inl u), fun u => v (Or.inr u)⟩
theorem sgN_r (σ : ga_S) {to j : Int} (h : j < to) : j < sgN σ to j ∧ sgN σ to j ≤ to := by
  unfold sgN
  split <;> omega
section
variable {σ0 τ0 : ga_S} {f : Int} {N : Nat}
theorem obV_r (E : E0 σ0 τ0 f N) (a b : Int) : obV σ0 a b = -1 ∨ (0 ≤ obV σ0 a b ∧ obV σ0 a b < σ0 fW_objects 0 0) := by
  unfold obV
  by_cases z : frA σ0 (a + artN σ0 a) b = true
  · rw [if_pos z]
    have r := e0_dN E (nmT σ0 (a + artN σ0 a) b) 2
    have m2 : mxN σ0 2 = σ0 fW_objects 0 0 := rfl
    omega
  · rw [if_neg z]; exact Or.inl rfl
/-- where the component's name ends: there too, or the name is none -/
theorem sg_free (E : E0 σ0 τ0 f N) {to k : Int} (hk : 0 ≤ k) (hkt : k ≤ to) (ht : to ≤ N) : ∃ b e : Int, b = (if k < to then k + artN σ0 k else k) ∧ e = sk (fun q => decide (σ0 fT_kinds 0 q = 0)) to b ∧ k ≤ b ∧ b ≤ e ∧ e ≤ to ∧ frB σ0 N b e ∧ ((e = to ∨ σ0 fT_kinds 0 e = 25 ∨ σ0 fT_kinds 0 e = 4) → e = sgE σ0 to k ∧ obV σ0 k (sgE σ0 to k) = (if b = e then -1 else dN σ0 (nmT σ0 b e) 2)) ∧ (¬ (e = to ∨ σ0 fT_kinds 0 e = 25 ∨ σ0 fT_kinds 0 e = 4) → obV σ0 k (sgE σ0 to k) = -1) := by
  obtain ⟨b, eb⟩ : ∃ b : Int, b = if k < to then k + artN σ0 k else k := ⟨_, rfl⟩
  have ar := artN_r σ0 k
  have hb : k ≤ b ∧ b ≤ to := by
    rw [eb]; split <;> omega
  obtain ⟨e, ee⟩ : ∃ e, e = sk (fun q => decide (σ0 fT_kinds 0 q = 0)) to b := ⟨_, rfl⟩
  have s := sk_all (f := fun q => decide (σ0 fT_kinds 0 q = 0)) (n := to) b
  rw [← ee] at s
  have et := s.2.1 hb.2
  have sg := sgE_r σ0 hkt
  -- ahead of b there's no comma
  have art : ∀ q, k ≤ q → q < b → 9 ≤ σ0 fT_kinds 0 q ∧ σ0 fT_kinds 0 q ≤ 12 := by
    intro q x y
    have hlt : k < to := by
      refine Classical.byContradiction fun z => ?_
      rw [if_neg z] at eb
      omega
    rw [if_pos hlt] at eb
    have e1 : q = k := by omega
    have : artN σ0 k = 1 := by omega
    unfold artN at this
    rw [e1]
    refine Classical.byContradiction fun z => ?_
    rw [if_neg z] at this
    omega
  have nosep : ∀ q, k ≤ q → q < e → σ0 fT_kinds 0 q ≠ 25 ∧ σ0 fT_kinds 0 q ≠ 4 := by
    intro q x y
    by_cases z : q < b
    · have := art q x z
      omega
    · have := of_decide_eq_true (s.2.2.2 q (by omega) y)
      omega
  have ge : e ≤ sgE σ0 to k := by
    refine Classical.byContradiction fun z => ?_
    have := sg.2.2.1 (by omega)
    have := nosep (sgE σ0 to k) sg.1 (by omega)
    omega
  have bk : k < to → b = k + artN σ0 k := fun z => by rw [eb, if_pos z]
  refine ⟨b, e, eb, ee, hb.1, s.1, et, ⟨by omega, s.1, by omega, fun q x y => of_decide_eq_true (s.2.2.2 q x y)⟩, fun z => ?_, fun z => ?_⟩
  · have eq : e = sgE σ0 to k := by
      refine Int.le_antisymm ge ?_
      refine Classical.byContradiction fun y => ?_
      rcases z with z | z
      · omega
      · have := sg.2.2.2 e (by omega) (by omega)
        omega
    refine ⟨eq, ?_⟩
    rw [← eq]
    by_cases be : b = e
    · rw [if_pos be]
      unfold obV
      have emp : nmT σ0 (k + artN σ0 k) e = [] := by
        unfold nmT wsT
        rw [rg_n (by
          by_cases q : k < to
          · rw [← bk q]; omega
          · omega)]
        rfl
      rw [emp, dN_nil E]
      split <;> rfl
    · rw [if_neg be]
      have kt : k < to := by omega
      unfold obV
      rw [← bk kt, if_pos]
      unfold frA
      exact rg_allI.mpr (fun q x y => s.2.2.2 q x y)
  · have lt : e < to := by
      have : e ≠ to := fun y => z (Or.inl y)
      omega
    have ke := of_decide_eq_false (s.2.2.1 lt)
    have kt : k < to := by omega
    have gt : e < sgE σ0 to k := by
      refine Classical.byContradiction fun y => ?_
      have e2 : e = sgE σ0 to k := by omega
      have := sg.2.2.1 (by omega)
      rw [← e2] at this
      exact z (Or.inr this)
    unfold obV
    rw [if_neg]
    intro y
    unfold frA at y
    exact ke (of_decide_eq_true (rg_allI.mp y e (by rw [← bk kt]; exact s.1) gt))
def lsF : List Nat := fR_nameFrom :: spL
theorem k_listed_50 {ρ : ga_S} (K : KC σ0 ρ) {to kind at' v6 v7 b : Int} (ht : to ≤ 5000) {d : Nat} (hd : 1 ≤ d) : ∀ q, 0 ≤ q → r_listed_50 d ρ to kind at' q v6 v7 b = r_listed_71 d ρ to kind at' (sk (fun q => decide (σ0 fT_kinds 0 q = 0)) to q) v6 v7 b := by
  refine pos_ind to fun q ih h0 => ?_
  rw [e_r_listed_50]
  by_cases y : q < to
  · rw [if_pos y, s_r_isFree hd (by omega), K.2.1 fT_kinds (by decide)]
    simp only [Option.bind_some]
    by_cases z : σ0 fT_kinds 0 q = 0
    · rw [decide_eq_true z, if_neg b2i_n, w32_ok (by omega), ih (q + 1) (by omega) y (by omega), sk_s (f := fun q => decide (σ0 fT_kinds 0 q = 0)) y (decide_eq_true z)]
    · rw [decide_eq_false z, if_pos b2i_f, sk_x (f := fun q => decide (σ0 fT_kinds 0 q = 0)) y (decide_eq_false z)]
  · rw [if_neg y, sk_n (by omega)]
theorem k_listed_l (E : E0 σ0 τ0 f N) {to kind at' k0 : Int} (ht : to ≤ N) (hat : 0 ≤ at') (hk0 : 0 ≤ k0) (hb : at' + (to - k0) ≤ 5000) {d : Nat} (hd : 4 ≤ d) : ∀ (n : Nat) (k : Int), k0 ≤ k → k ≤ to → to - k < n → ∀ ρ v6, KC σ0 ρ → 0 ≤ v6 → v6 ≤ k - k0 → ∃ ρ', KC σ0 ρ' ∧ fr lsF ρ ρ' ∧ (∀ i, i < at' + v6 → ρ' fR_nameFrom 0 i = ρ fR_nameFrom 0 i) ∧ (liR σ0 kind to n k = none → r_listed_9 d ρ to kind at' k v6 1 = some (-1, ρ')) ∧ (∀ L, liR σ0 kind to n k = some L → r_listed_9 d ρ to kind at' k v6 1 = some (v6 + (L.length : Int), ρ') ∧ ∀ i : Nat, i < L.length → ρ' fR_nameFrom 0 (at' + v6 + i) = L.getD i 0) := by
  have hN5 := E.1.2.2.1
  intro n
  induction n with
  | zero => intro k h0 h1 h2; omega
  | succ n ih =>
    intro k h0 h1 h2 ρ v6 K v0 v1
    obtain ⟨b, e, eb, ee, b1, b2, b3, fB, good, bad⟩ := sg_free E (k := k) (by omega) h1 ht
    have kk : ρ fT_kinds 0 = σ0 fT_kinds 0 := K.2.1 _ (by decide)
    -- up to the end of the name
    have run0 : r_listed_9 d ρ to kind at' k v6 1 = r_listed_71 d ρ to kind at' e v6 1 b := by
      have s43 : ∀ s0 : Int, k + s0 = b → r_listed_43 d ρ to kind at' v6 1 s0 k = r_listed_71 d ρ to kind at' e v6 1 b := by
        intro s0 es
        rw [e_r_listed_43, es, w32_ok (by omega), k_listed_50 K (by omega) (by omega) b (by omega), ← ee]
      rw [e_r_listed_9, if_neg (by decide)]
      by_cases y : k < to
      · have kr := E.1.2.2.2.1 k (by omega) (by omega)
        rw [if_pos y] at eb
        rw [if_pos y, ck_ok _ (by omega), kk, nn_ok _ kr.1, s_k_isArticle (by omega)]
        simp only [Option.bind_some]
        unfold artN at eb
        by_cases z : 9 ≤ σ0 fT_kinds 0 k ∧ σ0 fT_kinds 0 k ≤ 12
        · rw [if_pos z] at eb
          rw [decide_eq_true z, if_neg b2i_n, s43 1 eb.symm]
        · rw [if_neg z] at eb
          rw [decide_eq_false z, if_pos b2i_f, e_r_listed_42, s43 0 eb.symm]
      · rw [if_neg y] at eb
        rw [if_neg y, e_r_listed_42, s43 0 (by omega)]
    -- the name's object
    obtain ⟨o, eo⟩ : ∃ o, o = if b = e then -1 else dN σ0 (nmT σ0 b e) 2 := ⟨_, rfl⟩
    obtain ⟨ρ1, g1, g2, g3⟩ : ∃ ρ1, r_listed_71 d ρ to kind at' e v6 1 b = r_listed_91 d ρ1 to kind at' e v6 1 o ∧ KC σ0 ρ1 ∧ fr spL ρ ρ1 := by
      rw [e_r_listed_71]
      by_cases z : b = e
      · rw [if_pos z] at eo
        rw [if_pos z, ← eo]
        exact ⟨ρ, rfl, K, fr_refl _ _⟩
      · rw [if_neg z] at eo
        obtain ⟨ρ1, a1, a2, a3, a4⟩ := k_mean E K fB (d := d) (by omega) 2
        rw [if_neg z, a1, ← eo]
        exact ⟨ρ1, rfl, a4, a2⟩
    have ro := e0_dN E (nmT σ0 b e) 2
    have m2 : mxN σ0 2 = σ0 fW_objects 0 0 := rfl
    have oR : o = -1 ∨ (0 ≤ o ∧ o < σ0 fW_objects 0 0) := by
      rw [eo]; split
      · exact Or.inl rfl
      · omega
    have fail : liR σ0 kind to (n + 1) k = none → r_listed_91 d ρ1 to kind at' e v6 1 o = some (-1, ρ1) → ∃ ρ', KC σ0 ρ' ∧ fr lsF ρ ρ' ∧ (∀ i, i < at' + v6 → ρ' fR_nameFrom 0 i = ρ fR_nameFrom 0 i) ∧ (liR σ0 kind to (n + 1) k = none → r_listed_9 d ρ to kind at' k v6 1 = some (-1, ρ')) ∧ (∀ L, liR σ0 kind to (n + 1) k = some L → r_listed_9 d ρ to kind at' k v6 1 = some (v6 + (L.length : Int), ρ') ∧ ∀ i : Nat, i < L.length → ρ' fR_nameFrom 0 (at' + v6 + i) = L.getD i 0) := by
      intro z1 z2
      refine ⟨ρ1, g2, fr_sub g3 (by decide), fun i _ => by rw [g3 _ (by decide)], fun _ => by rw [run0, g1, z2], fun L hL => by rw [z1] at hL; cases hL⟩
    by_cases z1 : o = -1
    · refine fail ?_ (by rw [e_r_listed_91, if_pos z1])
      have : sgO σ0 kind to k = false := by
        unfold sgO
        have : obV σ0 k (sgE σ0 to k) = -1 := by
          by_cases c : e = to ∨ σ0 fT_kinds 0 e = 25 ∨ σ0 fT_kinds 0 e = 4
          · rw [(good c).2, ← eo]; exact z1
          · exact bad c
        rw [this]; rfl
      unfold liR
      rw [this, if_neg (by decide)]
    · have oo := oR.resolve_left z1
      have isk := k_isKind E g2 oo kind (d := d) (by omega)
      cases ib : isB (σ0 fW_parents 0) (σ0 fW_kindOf 0 o) kind with
      | false =>
        refine fail ?_ (by rw [e_r_listed_91, if_neg z1, isk, ib]; simp only [Option.bind_some]; rw [if_pos b2i_f])
        have : sgO σ0 kind to k = false := by
          unfold sgO
          by_cases c : e = to ∨ σ0 fT_kinds 0 e = 25 ∨ σ0 fT_kinds 0 e = 4
          · rw [(good c).2, ← eo, ib, Bool.and_false]
          · rw [bad c]; rfl
        unfold liR
        rw [this, if_neg (by decide)]
      | true =>
        obtain ⟨ρ2, e2⟩ : ∃ x, x = ga_up ρ1 fR_nameFrom 0 (at' + v6) o := ⟨_, rfl⟩
        have f2 : fr lsF ρ ρ2 := by rw [e2]; exact fr_trans (fr_sub g3 (by decide)) (fr_u (by decide))
        have K2 : KC σ0 ρ2 := KC_f K f2 (by decide)
        have kt : k < to := by
          refine Classical.byContradiction fun y => ?_
          have : b = e := by rw [if_neg y] at eb; omega
          rw [if_pos this] at eo
          exact z1 eo
        have keep2 : ∀ i, i < at' + v6 → ρ2 fR_nameFrom 0 i = ρ fR_nameFrom 0 i := by
          intro i hi
          rw [e2, up_i (by omega), g3 _ (by decide)]
        have at2 : ρ2 fR_nameFrom 0 (at' + v6) = o := by rw [e2, up_eq]
        have kk2 : ρ2 fT_kinds 0 = σ0 fT_kinds 0 := K2.2.1 _ (by decide)
        by_cases c : e = to ∨ σ0 fT_kinds 0 e = 25 ∨ σ0 fT_kinds 0 e = 4
        · obtain ⟨ej, ov⟩ := good c
          rw [← eo] at ov
          have sO : sgO σ0 kind to k = true := by
            unfold sgO
            rw [ov, ib, decide_eq_true z1]; rfl
          have lik : liR σ0 kind to (n + 1) k = if e < to then (liR σ0 kind to n (sgN σ0 to e)).map (fun L => o :: L) else some [o] := by
            show (if sgO σ0 kind to k = true then _ else _) = _
            rw [if_pos sO, ← ej]
            rw [← ej] at ov
            rw [ov]
          have run1 : r_listed_91 d ρ1 to kind at' e v6 1 o = if e = to then r_listed_9 d ρ2 to kind at' e (v6 + 1) 0 else r_listed_9 d ρ2 to kind at' (sgN σ0 to e) (v6 + 1) 1 := by
            have is := fun (q : Int) (hq : 0 ≤ q ∧ q < 5002) (c : Int) => s_r_is (σ := ρ2) (d := d) (by omega) (k := q) hq c
            rw [e_r_listed_91, if_neg z1, isk, ib]
            simp only [Option.bind_some]
            rw [if_neg b2i_n, w32_ok (by omega), ck_ok _ (by omega), ← e2, w32_ok (x := v6 + 1) (by omega)]
            by_cases q1 : e = to
            · rw [if_pos q1, if_pos q1, e_r_listed_208]
            · rw [if_neg q1, if_neg q1, is e (by omega) 4, kk2]
              simp only [Option.bind_some]
              unfold sgN
              by_cases q2 : σ0 fT_kinds 0 e = 4
              · rw [decide_eq_true q2, if_neg b2i_n, w32_ok (x := e + 1) (by omega)]
                by_cases q3 : e + 1 < to
                · rw [if_pos q3, is (e + 1) (by omega) 25, kk2]
                  simp only [Option.bind_some]
                  by_cases q4 : σ0 fT_kinds 0 (e + 1) = 25
                  · rw [decide_eq_true q4, if_neg b2i_n, if_pos ⟨q2, q3, q4⟩, e_r_listed_182, w32_ok (by omega), e_r_listed_208]
                  · rw [decide_eq_false q4, if_pos b2i_f, if_neg (fun v => q4 v.2.2), e_r_listed_181, e_r_listed_182, w32_ok (by omega), e_r_listed_208]
                · rw [if_neg q3, if_neg (fun v => q3 v.2.1), e_r_listed_181, e_r_listed_182, w32_ok (by omega), e_r_listed_208]
              · have q5 : σ0 fT_kinds 0 e = 25 := by omega
                rw [decide_eq_false q2, if_pos b2i_f, is e (by omega) 25, kk2]
                simp only [Option.bind_some]
                rw [decide_eq_true q5, if_neg b2i_n, if_neg (fun v => q2 v.1), w32_ok (by omega), e_r_listed_208]
          by_cases q1 : e = to
          · rw [if_neg (by omega)] at lik
            rw [if_pos q1, e_r_listed_9, if_pos rfl] at run1
            refine ⟨ρ2, K2, f2, keep2, fun z => (by rw [lik] at z; cases z), fun L hL => ?_⟩
            rw [lik] at hL
            injection hL with hL
            rw [← hL]
            refine ⟨by rw [run0, g1, run1]; rfl, fun i hi => ?_⟩
            have : i = 0 := by simp at hi; omega
            rw [this, Int.natCast_zero, Int.add_zero, at2]; rfl
          · have q2 : e < to := by omega
            have nr := sgN_r σ0 q2
            rw [if_pos q2] at lik
            rw [if_neg q1] at run1
            obtain ⟨ρ3, x1, x2, x3, x4, x5⟩ := ih (sgN σ0 to e) (by omega) nr.2 (by push_cast at h2; omega) ρ2 (v6 + 1) K2 (by omega) (by omega)
            refine ⟨ρ3, x1, fr_trans f2 x2, fun i hi => by rw [x3 i (by omega)]; exact keep2 i hi, fun z => ?_, fun L hL => ?_⟩
            · rw [lik] at z
              rw [run0, g1, run1]
              exact x4 (Option.map_eq_none_iff.mp z)
            · rw [lik] at hL
              obtain ⟨L', hL', eL⟩ := Option.map_eq_some_iff.mp hL
              obtain ⟨y1, y2⟩ := x5 L' hL'
              rw [← eL]
              refine ⟨?_, fun i hi => ?_⟩
              · rw [run0, g1, run1, y1, List.length_cons]
                congr 2
                push_cast
                omega
              · cases i with
                | zero =>
                  rw [Int.natCast_zero, Int.add_zero, x3 _ (by omega), at2]; rfl
                | succ i =>
                  have := y2 i (by rw [List.length_cons] at hi; omega)
                  rw [List.getD_cons_succ, ← this]
                  congr 1
                  push_cast
                  omega
        · have q1 : e ≠ to := fun v => c (Or.inl v)
          have q2 : ¬ σ0 fT_kinds 0 e = 4 := fun v => c (Or.inr (Or.inr v))
          have q3 : ¬ σ0 fT_kinds 0 e = 25 := fun v => c (Or.inr (Or.inl v))
          have lik : liR σ0 kind to (n + 1) k = none := by
            have : sgO σ0 kind to k = false := by unfold sgO; rw [bad c]; rfl
            show (if sgO σ0 kind to k = true then _ else _) = _
            rw [this, if_neg (by decide)]
          refine ⟨ρ2, K2, f2, keep2, fun _ => ?_, fun L hL => by rw [lik] at hL; cases hL⟩
          rw [run0, g1, e_r_listed_91, if_neg z1, isk, ib]
          simp only [Option.bind_some]
          rw [if_neg b2i_n, w32_ok (by omega), ck_ok _ (by omega), ← e2, if_neg q1, s_r_is (by omega) (by omega), kk2]
          simp only [Option.bind_some]
          rw [decide_eq_false q2, if_pos b2i_f, s_r_is (by omega) (by omega), kk2]
          simp only [Option.bind_some]
          rw [decide_eq_false q3, if_pos b2i_f]
end

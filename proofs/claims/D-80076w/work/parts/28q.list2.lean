/-! lists of objects, model -/
section
variable {σ0 τ0 : ga_S} {f : Int} {N : Nat}
theorem m_objectOf2 {τ : ga_S} (E : E0 σ0 τ0 f N) (K : KM τ0 τ) {a b : Int} (h1 : 0 ≤ a) (h2 : a ≤ b) (h3 : b ≤ N) {d : Nat} (hd : 4 ≤ d) : c_m_objectOf d τ (f + a) (f + b) = some (if obV σ0 a b = -1 then -9 else obV σ0 a b, τ) := by
  by_cases z : a < b
  · exact m_objectOf E K h1 z h3 hd
  · have e : b = a := by omega
    rw [e]
    have hf := E.1.1
    have hN := E.1.2.1
    have fB : frB σ0 N a a := ⟨h1, Int.le_refl _, by omega, fun q x y => by omega⟩
    obtain ⟨d, rfl⟩ : ∃ x, d = x + 1 := ⟨d - 1, by omega⟩
    have emp : ∀ c, a ≤ c → nmT σ0 c a = [] := fun c hc => by unfold nmT wsT; rw [rg_n hc]; rfl
    have ar := artN_r σ0 a
    have ov : obV σ0 a a = -1 := by
      unfold obV
      rw [emp _ (by omega), dN_nil E]
      split <;> rfl
    have mm := m_means E K fB (t := f + a) (n := 0) rfl (by omega) (d := d) (by omega) 4
    rw [mN_dN (s := 2) (ms := 4) (by omega), emp a (Int.le_refl _), dN_nil E] at mm
    rw [ov, if_pos rfl, e_m_objectOf, if_neg (by omega), e_m_objectOf_23, e_m_objectOf_24, e_m_objectOf_28, if_neg (by omega), show f + a - (f + a) = 0 by omega, w32_ok (by omega), mm]
    simp only [Option.bind_some]
    rw [if_pos (by trivial)]
theorem m_li18_spare {ρ : ga_S} (E : E0 σ0 τ0 f N) (K : KM τ0 ρ) {to kind v5 k : Int} (ht : to ≤ N) {d : Nat} : ∀ q, 0 ≤ q → q ≤ to → m_listOf_spare_18 d ρ (f + to) kind v5 (f + k) (f + q) = m_listOf_spare_54 d ρ (f + to) kind v5 (f + k) (f + sgE σ0 to q) := by
  have hf := E.1.1
  have hN := E.1.2.1
  refine pos_ind to fun q ih h0 h1 => ?_
  have tk : ρ fM_token = τ0 fM_token := K _ (by decide)
  rw [e_m_listOf_spare_18, tk]
  unfold sgE
  by_cases y : q < to
  · have x25 : τ0 fM_token 0 (f + q) = 116 ↔ σ0 fT_kinds 0 q = 25 := ENV_is E.1 (k := q) (c := 25) h0 (by omega) (by omega)
    have x4 : τ0 fM_token 0 (f + q) = 44 ↔ σ0 fT_kinds 0 q = 4 := ENV_is E.1 (k := q) (c := 4) h0 (by omega) (by omega)
    rw [if_pos (by omega), ck_ok _ (by omega)]
    by_cases z : σ0 fT_kinds 0 q = 25
    · rw [if_pos (x25.mpr z), sk_x y (decide_eq_false (fun v => v.1 z))]
    · rw [if_neg (fun v => z (x25.mp v)), ck_ok _ (by omega)]
      by_cases w : σ0 fT_kinds 0 q = 4
      · rw [if_pos (x4.mpr w), sk_x y (decide_eq_false (fun v => v.2 w))]
      · rw [if_neg (fun v => w (x4.mp v)), w32_ok (by omega), Int.add_assoc, ih (q + 1) (by omega) y (by omega) (by omega), sk_s (f := fun q => decide (σ0 fT_kinds 0 q ≠ 25 ∧ σ0 fT_kinds 0 q ≠ 4)) y (decide_eq_true ⟨z, w⟩)]; rfl
  · rw [if_neg (by omega), sk_n (by omega)]
theorem m_liL_spare (E : E0 σ0 τ0 f N) {to kind k0 : Int} (ht : to ≤ N) (hk0 : 0 ≤ k0) {d : Nat} (hd : 4 ≤ d) : ∀ (n : Nat) (k : Int), k0 ≤ k → k ≤ to → to - k < n → ∀ ρ v5, KM τ0 ρ → 0 ≤ v5 → 2 * v5 ≤ k - k0 → ∃ ρ', KM τ0 ρ' ∧ fr [fM_spare] ρ ρ' ∧ (∀ i, i < v5 → ρ' fM_spare 0 i = ρ fM_spare 0 i) ∧ (liR σ0 kind to n k = none → m_listOf_spare_9 d ρ (f + to) kind v5 (f + k) 1 = some (0, ρ')) ∧ (∀ L, liR σ0 kind to n k = some L → m_listOf_spare_9 d ρ (f + to) kind v5 (f + k) 1 = some (v5 + (L.length : Int), ρ') ∧ ∀ i : Nat, i < L.length → ρ' fM_spare 0 (v5 + i) = L.getD i 0) := by
  have hf := E.1.1
  have hN := E.1.2.1
  have hN5 := E.1.2.2.1
  have wo := e0_o E
  have wo2 := wo.2.1
  intro n
  induction n with
  | zero => intro k h0 h1 h2; omega
  | succ n ih =>
    intro k h0 h1 h2 ρ v5 K v0 v1
    have sg := sgE_r σ0 h1
    obtain ⟨j, ej⟩ : ∃ j, j = sgE σ0 to k := ⟨_, rfl⟩
    have oR := obV_r E k j
    have lik0 : liR σ0 kind to (n + 1) k = if (decide (obV σ0 k j ≠ -1) && isB (σ0 fW_parents 0) (σ0 fW_kindOf 0 (obV σ0 k j)) kind) = true then (if j < to then (liR σ0 kind to n (sgN σ0 to j)).map (fun L => obV σ0 k j :: L) else some [obV σ0 k j]) else none := by
      rw [ej]; rfl
    rw [← ej] at sg
    have ob := m_objectOf2 E K (a := k) (b := j) (by omega) (by omega) (by omega) (d := d) (by omega)
    obtain ⟨o, eo⟩ : ∃ o, o = obV σ0 k j := ⟨_, rfl⟩
    rw [← eo] at lik0 ob oR
    have run0 : m_listOf_spare_9 d ρ (f + to) kind v5 (f + k) 1 = m_listOf_spare_54 d ρ (f + to) kind v5 (f + k) (f + j) := by
      rw [e_m_listOf_spare_9, if_neg (by decide), m_li18_spare E K ht k (by omega) h1, ← ej]
    have fail : liR σ0 kind to (n + 1) k = none → m_listOf_spare_54 d ρ (f + to) kind v5 (f + k) (f + j) = some (0, ρ) → ∃ ρ', KM τ0 ρ' ∧ fr [fM_spare] ρ ρ' ∧ (∀ i, i < v5 → ρ' fM_spare 0 i = ρ fM_spare 0 i) ∧ (liR σ0 kind to (n + 1) k = none → m_listOf_spare_9 d ρ (f + to) kind v5 (f + k) 1 = some (0, ρ')) ∧ (∀ L, liR σ0 kind to (n + 1) k = some L → m_listOf_spare_9 d ρ (f + to) kind v5 (f + k) 1 = some (v5 + (L.length : Int), ρ') ∧ ∀ i : Nat, i < L.length → ρ' fM_spare 0 (v5 + i) = L.getD i 0) := by
      intro z1 z2
      exact ⟨ρ, K, fr_refl _ _, fun _ _ => rfl, fun _ => by rw [run0, z2], fun L hL => by rw [z1] at hL; cases hL⟩
    by_cases z1 : o = -1
    · refine fail ?_ ?_
      · rw [lik0, z1]; rfl
      · rw [e_m_listOf_spare_54, ob, if_pos z1]
        simp only [Option.bind_some]
        rw [if_pos (by trivial)]
    · have oo := oR.resolve_left z1
      have isk := m_isKind E K oo kind (d := d) (by omega)
      rw [if_neg z1] at ob
      have run1 : m_listOf_spare_54 d ρ (f + to) kind v5 (f + k) (f + j) = if b2i (isB (σ0 fW_parents 0) (σ0 fW_kindOf 0 o) kind) = 0 then some (0, ρ) else ga_ck v5 2600 (if f + j < f + to then m_listOf_spare_109 d (ga_up ρ fM_spare 0 v5 o) (f + to) kind (w32 (v5 + 1)) (f + j) 1 else m_listOf_spare_109 d (ga_up ρ fM_spare 0 v5 o) (f + to) kind (w32 (v5 + 1)) (f + j) 0) := by
        rw [e_m_listOf_spare_54, ob]
        simp only [Option.bind_some]
        rw [if_neg (by omega), ck_ok _ (by omega), isk]
        rfl
      cases ib : isB (σ0 fW_parents 0) (σ0 fW_kindOf 0 o) kind with
      | false =>
        refine fail ?_ ?_
        · rw [lik0, ib, Bool.and_false]; rfl
        · rw [run1, ib, if_pos b2i_f]
      | true =>
        rw [ib, decide_eq_true z1, Bool.and_self, if_pos rfl] at lik0
        rw [ib, if_neg b2i_n, ck_ok _ (by omega), w32_ok (x := v5 + 1) (by omega)] at run1
        obtain ⟨ρ2, e2⟩ : ∃ x, x = ga_up ρ fM_spare 0 v5 o := ⟨_, rfl⟩
        have f2 : fr [fM_spare] ρ ρ2 := by rw [e2]; exact fr_u (by decide)
        have K2 : KM τ0 ρ2 := KM_f K f2 (by decide)
        have tk2 : ρ2 fM_token = τ0 fM_token := K2 _ (by decide)
        have keep2 : ∀ i, i < v5 → ρ2 fM_spare 0 i = ρ fM_spare 0 i := fun i hi => by rw [e2, up_i (by omega)]
        have at2 : ρ2 fM_spare 0 v5 = o := by rw [e2, up_eq]
        rw [← e2] at run1
        by_cases q1 : j < to
        · have nr := sgN_r σ0 q1
          rw [if_pos q1] at lik0
          have next : m_listOf_spare_54 d ρ (f + to) kind v5 (f + k) (f + j) = m_listOf_spare_9 d ρ2 (f + to) kind (v5 + 1) (f + sgN σ0 to j) 1 := by
            have x4 : τ0 fM_token 0 (f + j) = 44 ↔ σ0 fT_kinds 0 j = 4 := ENV_is E.1 (k := j) (c := 4) (by omega) (by omega) (by omega)
            have s159 : ∀ s0 : Int, j + 1 + s0 = sgN σ0 to j → m_listOf_spare_159 d ρ2 (f + to) kind (v5 + 1) 1 s0 (f + j + 1) = m_listOf_spare_9 d ρ2 (f + to) kind (v5 + 1) (f + sgN σ0 to j) 1 := by
              intro s0 es
              rw [e_m_listOf_spare_159, w32_ok (by omega), show f + j + 1 + s0 = f + sgN σ0 to j by omega]
            have en : sgN σ0 to j = if σ0 fT_kinds 0 j = 4 ∧ j + 1 < to ∧ σ0 fT_kinds 0 (j + 1) = 25 then j + 2 else j + 1 := rfl
            rw [run1, if_pos (by omega), e_m_listOf_spare_109, if_neg (by decide), ck_ok _ (by omega), tk2, w32_ok (x := f + j + 1) (by omega)]
            by_cases q2 : σ0 fT_kinds 0 j = 4
            · rw [if_pos (x4.mpr q2)]
              by_cases q3 : j + 1 < to
              · have x25 : τ0 fM_token 0 (f + (j + 1)) = 116 ↔ σ0 fT_kinds 0 (j + 1) = 25 := ENV_is E.1 (k := j + 1) (c := 25) (by omega) (by omega) (by omega)
                rw [← Int.add_assoc] at x25
                rw [if_pos (by omega), ck_ok _ (by omega)]
                by_cases q4 : σ0 fT_kinds 0 (j + 1) = 25
                · rw [if_pos ⟨q2, q3, q4⟩] at en
                  rw [if_pos (x25.mpr q4), s159 1 (by omega)]
                · rw [if_neg (fun v => q4 v.2.2)] at en
                  rw [if_neg (fun v => q4 (x25.mp v)), e_m_listOf_spare_158, s159 0 (by omega)]
              · rw [if_neg (fun v => q3 v.2.1)] at en
                rw [if_neg (by omega), e_m_listOf_spare_158, s159 0 (by omega)]
            · rw [if_neg (fun v => q2 v.1)] at en
              rw [if_neg (fun v => q2 (x4.mp v)), e_m_listOf_spare_158, s159 0 (by omega)]
          have jk : k < j := by
            refine Classical.byContradiction fun v => ?_
            have ejk : j = k := by omega
            have ovn : o = -1 := by
              rw [eo, ejk]
              have emp : nmT σ0 (k + artN σ0 k) k = [] := by
                have := artN_r σ0 k
                unfold nmT wsT
                rw [rg_n (by omega)]; rfl
              unfold obV
              rw [emp, dN_nil E]
              split <;> rfl
            exact z1 ovn
          obtain ⟨ρ3, x1, x2, x3, x4, x5⟩ := ih (sgN σ0 to j) (by omega) nr.2 (by push_cast at h2; omega) ρ2 (v5 + 1) K2 (by omega) (by omega)
          refine ⟨ρ3, x1, fr_trans f2 x2, fun i hi => by rw [x3 i (by omega)]; exact keep2 i hi, fun z => ?_, fun L hL => ?_⟩
          · rw [lik0] at z
            rw [run0, next]
            exact x4 (Option.map_eq_none_iff.mp z)
          · rw [lik0] at hL
            obtain ⟨L', hL', eL⟩ := Option.map_eq_some_iff.mp hL
            obtain ⟨y1, y2⟩ := x5 L' hL'
            rw [← eL]
            refine ⟨?_, fun i hi => ?_⟩
            · rw [run0, next, y1, List.length_cons]
              congr 2
              push_cast
              omega
            · cases i with
              | zero =>
                rw [Int.natCast_zero, Int.add_zero, x3 _ (by omega), at2]; rfl
              | succ i =>
                have := y2 i (by rw [List.length_cons] at hi; omega)
                rw [List.getD_cons_succ, ← this]
                congr 1
                push_cast
                omega
        · rw [if_neg q1] at lik0
          refine ⟨ρ2, K2, f2, keep2, fun z => (by rw [lik0] at z; cases z), fun L hL => ?_⟩
          rw [lik0] at hL
          injection hL with hL
          rw [← hL]
          refine ⟨?_, fun i hi => ?_⟩
          · rw [run0, run1, if_neg (by omega), e_m_listOf_spare_109, if_pos rfl, e_m_listOf_spare_158, e_m_listOf_spare_159, e_m_listOf_spare_9, if_pos rfl]
            rfl
          · have : i = 0 := by simp at hi; omega
            rw [this, Int.natCast_zero, Int.add_zero, at2]; rfl
theorem m_li18_aheadObjects {ρ : ga_S} (E : E0 σ0 τ0 f N) (K : KM τ0 ρ) {to kind v5 k : Int} (ht : to ≤ N) {d : Nat} : ∀ q, 0 ≤ q → q ≤ to → m_listOf_aheadObjects_18 d ρ (f + to) kind v5 (f + k) (f + q) = m_listOf_aheadObjects_54 d ρ (f + to) kind v5 (f + k) (f + sgE σ0 to q) := by
  have hf := E.1.1
  have hN := E.1.2.1
  refine pos_ind to fun q ih h0 h1 => ?_
  have tk : ρ fM_token = τ0 fM_token := K _ (by decide)
  rw [e_m_listOf_aheadObjects_18, tk]
  unfold sgE
  by_cases y : q < to
  · have x25 : τ0 fM_token 0 (f + q) = 116 ↔ σ0 fT_kinds 0 q = 25 := ENV_is E.1 (k := q) (c := 25) h0 (by omega) (by omega)
    have x4 : τ0 fM_token 0 (f + q) = 44 ↔ σ0 fT_kinds 0 q = 4 := ENV_is E.1 (k := q) (c := 4) h0 (by omega) (by omega)
    rw [if_pos (by omega), ck_ok _ (by omega)]
    by_cases z : σ0 fT_kinds 0 q = 25
    · rw [if_pos (x25.mpr z), sk_x y (decide_eq_false (fun v => v.1 z))]
    · rw [if_neg (fun v => z (x25.mp v)), ck_ok _ (by omega)]
      by_cases w : σ0 fT_kinds 0 q = 4
      · rw [if_pos (x4.mpr w), sk_x y (decide_eq_false (fun v => v.2 w))]
      · rw [if_neg (fun v => w (x4.mp v)), w32_ok (by omega), Int.add_assoc, ih (q + 1) (by omega) y (by omega) (by omega), sk_s (f := fun q => decide (σ0 fT_kinds 0 q ≠ 25 ∧ σ0 fT_kinds 0 q ≠ 4)) y (decide_eq_true ⟨z, w⟩)]; rfl
  · rw [if_neg (by omega), sk_n (by omega)]
theorem m_liL_aheadObjects (E : E0 σ0 τ0 f N) {to kind k0 : Int} (ht : to ≤ N) (hk0 : 0 ≤ k0) {d : Nat} (hd : 4 ≤ d) : ∀ (n : Nat) (k : Int), k0 ≤ k → k ≤ to → to - k < n → ∀ ρ v5, KM τ0 ρ → 0 ≤ v5 → 2 * v5 ≤ k - k0 → ∃ ρ', KM τ0 ρ' ∧ fr [fM_aheadObjects] ρ ρ' ∧ (∀ i, i < v5 → ρ' fM_aheadObjects 0 i = ρ fM_aheadObjects 0 i) ∧ (liR σ0 kind to n k = none → m_listOf_aheadObjects_9 d ρ (f + to) kind v5 (f + k) 1 = some (0, ρ')) ∧ (∀ L, liR σ0 kind to n k = some L → m_listOf_aheadObjects_9 d ρ (f + to) kind v5 (f + k) 1 = some (v5 + (L.length : Int), ρ') ∧ ∀ i : Nat, i < L.length → ρ' fM_aheadObjects 0 (v5 + i) = L.getD i 0) := by
  have hf := E.1.1
  have hN := E.1.2.1
  have hN5 := E.1.2.2.1
  have wo := e0_o E
  have wo2 := wo.2.1
  intro n
  induction n with
  | zero => intro k h0 h1 h2; omega
  | succ n ih =>
    intro k h0 h1 h2 ρ v5 K v0 v1
    have sg := sgE_r σ0 h1
    obtain ⟨j, ej⟩ : ∃ j, j = sgE σ0 to k := ⟨_, rfl⟩
    have oR := obV_r E k j
    have lik0 : liR σ0 kind to (n + 1) k = if (decide (obV σ0 k j ≠ -1) && isB (σ0 fW_parents 0) (σ0 fW_kindOf 0 (obV σ0 k j)) kind) = true then (if j < to then (liR σ0 kind to n (sgN σ0 to j)).map (fun L => obV σ0 k j :: L) else some [obV σ0 k j]) else none := by
      rw [ej]; rfl
    rw [← ej] at sg
    have ob := m_objectOf2 E K (a := k) (b := j) (by omega) (by omega) (by omega) (d := d) (by omega)
    obtain ⟨o, eo⟩ : ∃ o, o = obV σ0 k j := ⟨_, rfl⟩
    rw [← eo] at lik0 ob oR
    have run0 : m_listOf_aheadObjects_9 d ρ (f + to) kind v5 (f + k) 1 = m_listOf_aheadObjects_54 d ρ (f + to) kind v5 (f + k) (f + j) := by
      rw [e_m_listOf_aheadObjects_9, if_neg (by decide), m_li18_aheadObjects E K ht k (by omega) h1, ← ej]
    have fail : liR σ0 kind to (n + 1) k = none → m_listOf_aheadObjects_54 d ρ (f + to) kind v5 (f + k) (f + j) = some (0, ρ) → ∃ ρ', KM τ0 ρ' ∧ fr [fM_aheadObjects] ρ ρ' ∧ (∀ i, i < v5 → ρ' fM_aheadObjects 0 i = ρ fM_aheadObjects 0 i) ∧ (liR σ0 kind to (n + 1) k = none → m_listOf_aheadObjects_9 d ρ (f + to) kind v5 (f + k) 1 = some (0, ρ')) ∧ (∀ L, liR σ0 kind to (n + 1) k = some L → m_listOf_aheadObjects_9 d ρ (f + to) kind v5 (f + k) 1 = some (v5 + (L.length : Int), ρ') ∧ ∀ i : Nat, i < L.length → ρ' fM_aheadObjects 0 (v5 + i) = L.getD i 0) := by
      intro z1 z2
      exact ⟨ρ, K, fr_refl _ _, fun _ _ => rfl, fun _ => by rw [run0, z2], fun L hL => by rw [z1] at hL; cases hL⟩
    by_cases z1 : o = -1
    · refine fail ?_ ?_
      · rw [lik0, z1]; rfl
      · rw [e_m_listOf_aheadObjects_54, ob, if_pos z1]
        simp only [Option.bind_some]
        rw [if_pos (by trivial)]
    · have oo := oR.resolve_left z1
      have isk := m_isKind E K oo kind (d := d) (by omega)
      rw [if_neg z1] at ob
      have run1 : m_listOf_aheadObjects_54 d ρ (f + to) kind v5 (f + k) (f + j) = if b2i (isB (σ0 fW_parents 0) (σ0 fW_kindOf 0 o) kind) = 0 then some (0, ρ) else ga_ck v5 2600 (if f + j < f + to then m_listOf_aheadObjects_109 d (ga_up ρ fM_aheadObjects 0 v5 o) (f + to) kind (w32 (v5 + 1)) (f + j) 1 else m_listOf_aheadObjects_109 d (ga_up ρ fM_aheadObjects 0 v5 o) (f + to) kind (w32 (v5 + 1)) (f + j) 0) := by
        rw [e_m_listOf_aheadObjects_54, ob]
        simp only [Option.bind_some]
        rw [if_neg (by omega), ck_ok _ (by omega), isk]
        rfl
      cases ib : isB (σ0 fW_parents 0) (σ0 fW_kindOf 0 o) kind with
      | false =>
        refine fail ?_ ?_
        · rw [lik0, ib, Bool.and_false]; rfl
        · rw [run1, ib, if_pos b2i_f]
      | true =>
        rw [ib, decide_eq_true z1, Bool.and_self, if_pos rfl] at lik0
        rw [ib, if_neg b2i_n, ck_ok _ (by omega), w32_ok (x := v5 + 1) (by omega)] at run1
        obtain ⟨ρ2, e2⟩ : ∃ x, x = ga_up ρ fM_aheadObjects 0 v5 o := ⟨_, rfl⟩
        have f2 : fr [fM_aheadObjects] ρ ρ2 := by rw [e2]; exact fr_u (by decide)
        have K2 : KM τ0 ρ2 := KM_f K f2 (by decide)
        have tk2 : ρ2 fM_token = τ0 fM_token := K2 _ (by decide)
        have keep2 : ∀ i, i < v5 → ρ2 fM_aheadObjects 0 i = ρ fM_aheadObjects 0 i := fun i hi => by rw [e2, up_i (by omega)]
        have at2 : ρ2 fM_aheadObjects 0 v5 = o := by rw [e2, up_eq]
        rw [← e2] at run1
        by_cases q1 : j < to
        · have nr := sgN_r σ0 q1
          rw [if_pos q1] at lik0
          have next : m_listOf_aheadObjects_54 d ρ (f + to) kind v5 (f + k) (f + j) = m_listOf_aheadObjects_9 d ρ2 (f + to) kind (v5 + 1) (f + sgN σ0 to j) 1 := by
            have x4 : τ0 fM_token 0 (f + j) = 44 ↔ σ0 fT_kinds 0 j = 4 := ENV_is E.1 (k := j) (c := 4) (by omega) (by omega) (by omega)
            have s159 : ∀ s0 : Int, j + 1 + s0 = sgN σ0 to j → m_listOf_aheadObjects_159 d ρ2 (f + to) kind (v5 + 1) 1 s0 (f + j + 1) = m_listOf_aheadObjects_9 d ρ2 (f + to) kind (v5 + 1) (f + sgN σ0 to j) 1 := by
              intro s0 es
              rw [e_m_listOf_aheadObjects_159, w32_ok (by omega), show f + j + 1 + s0 = f + sgN σ0 to j by omega]
            have en : sgN σ0 to j = if σ0 fT_kinds 0 j = 4 ∧ j + 1 < to ∧ σ0 fT_kinds 0 (j + 1) = 25 then j + 2 else j + 1 := rfl
            rw [run1, if_pos (by omega), e_m_listOf_aheadObjects_109, if_neg (by decide), ck_ok _ (by omega), tk2, w32_ok (x := f + j + 1) (by omega)]
            by_cases q2 : σ0 fT_kinds 0 j = 4
            · rw [if_pos (x4.mpr q2)]
              by_cases q3 : j + 1 < to
              · have x25 : τ0 fM_token 0 (f + (j + 1)) = 116 ↔ σ0 fT_kinds 0 (j + 1) = 25 := ENV_is E.1 (k := j + 1) (c := 25) (by omega) (by omega) (by omega)
                rw [← Int.add_assoc] at x25
                rw [if_pos (by omega), ck_ok _ (by omega)]
                by_cases q4 : σ0 fT_kinds 0 (j + 1) = 25
                · rw [if_pos ⟨q2, q3, q4⟩] at en
                  rw [if_pos (x25.mpr q4), s159 1 (by omega)]
                · rw [if_neg (fun v => q4 v.2.2)] at en
                  rw [if_neg (fun v => q4 (x25.mp v)), e_m_listOf_aheadObjects_158, s159 0 (by omega)]
              · rw [if_neg (fun v => q3 v.2.1)] at en
                rw [if_neg (by omega), e_m_listOf_aheadObjects_158, s159 0 (by omega)]
            · rw [if_neg (fun v => q2 v.1)] at en
              rw [if_neg (fun v => q2 (x4.mp v)), e_m_listOf_aheadObjects_158, s159 0 (by omega)]
          have jk : k < j := by
            refine Classical.byContradiction fun v => ?_
            have ejk : j = k := by omega
            have ovn : o = -1 := by
              rw [eo, ejk]
              have emp : nmT σ0 (k + artN σ0 k) k = [] := by
                have := artN_r σ0 k
                unfold nmT wsT
                rw [rg_n (by omega)]; rfl
              unfold obV
              rw [emp, dN_nil E]
              split <;> rfl
            exact z1 ovn
          obtain ⟨ρ3, x1, x2, x3, x4, x5⟩ := ih (sgN σ0 to j) (by omega) nr.2 (by push_cast at h2; omega) ρ2 (v5 + 1) K2 (by omega) (by omega)
          refine ⟨ρ3, x1, fr_trans f2 x2, fun i hi => by rw [x3 i (by omega)]; exact keep2 i hi, fun z => ?_, fun L hL => ?_⟩
          · rw [lik0] at z
            rw [run0, next]
            exact x4 (Option.map_eq_none_iff.mp z)
          · rw [lik0] at hL
            obtain ⟨L', hL', eL⟩ := Option.map_eq_some_iff.mp hL
            obtain ⟨y1, y2⟩ := x5 L' hL'
            rw [← eL]
            refine ⟨?_, fun i hi => ?_⟩
            · rw [run0, next, y1, List.length_cons]
              congr 2
              push_cast
              omega
            · cases i with
              | zero =>
                rw [Int.natCast_zero, Int.add_zero, x3 _ (by omega), at2]; rfl
              | succ i =>
                have := y2 i (by rw [List.length_cons] at hi; omega)
                rw [List.getD_cons_succ, ← this]
                congr 1
                push_cast
                omega
        · rw [if_neg q1] at lik0
          refine ⟨ρ2, K2, f2, keep2, fun z => (by rw [lik0] at z; cases z), fun L hL => ?_⟩
          rw [lik0] at hL
          injection hL with hL
          rw [← hL]
          refine ⟨?_, fun i hi => ?_⟩
          · rw [run0, run1, if_neg (by omega), e_m_listOf_aheadObjects_109, if_pos rfl, e_m_listOf_aheadObjects_158, e_m_listOf_aheadObjects_159, e_m_listOf_aheadObjects_9, if_pos rfl]
            rfl
          · have : i = 0 := by simp at hi; omega
            rw [this, Int.natCast_zero, Int.add_zero, at2]; rfl
theorem m_li18_behindObjects {ρ : ga_S} (E : E0 σ0 τ0 f N) (K : KM τ0 ρ) {to kind v5 k : Int} (ht : to ≤ N) {d : Nat} : ∀ q, 0 ≤ q → q ≤ to → m_listOf_behindObjects_18 d ρ (f + to) kind v5 (f + k) (f + q) = m_listOf_behindObjects_54 d ρ (f + to) kind v5 (f + k) (f + sgE σ0 to q) := by
  have hf := E.1.1
  have hN := E.1.2.1
  refine pos_ind to fun q ih h0 h1 => ?_
  have tk : ρ fM_token = τ0 fM_token := K _ (by decide)
  rw [e_m_listOf_behindObjects_18, tk]
  unfold sgE
  by_cases y : q < to
  · have x25 : τ0 fM_token 0 (f + q) = 116 ↔ σ0 fT_kinds 0 q = 25 := ENV_is E.1 (k := q) (c := 25) h0 (by omega) (by omega)
    have x4 : τ0 fM_token 0 (f + q) = 44 ↔ σ0 fT_kinds 0 q = 4 := ENV_is E.1 (k := q) (c := 4) h0 (by omega) (by omega)
    rw [if_pos (by omega), ck_ok _ (by omega)]
    by_cases z : σ0 fT_kinds 0 q = 25
    · rw [if_pos (x25.mpr z), sk_x y (decide_eq_false (fun v => v.1 z))]
    · rw [if_neg (fun v => z (x25.mp v)), ck_ok _ (by omega)]
      by_cases w : σ0 fT_kinds 0 q = 4
      · rw [if_pos (x4.mpr w), sk_x y (decide_eq_false (fun v => v.2 w))]
      · rw [if_neg (fun v => w (x4.mp v)), w32_ok (by omega), Int.add_assoc, ih (q + 1) (by omega) y (by omega) (by omega), sk_s (f := fun q => decide (σ0 fT_kinds 0 q ≠ 25 ∧ σ0 fT_kinds 0 q ≠ 4)) y (decide_eq_true ⟨z, w⟩)]; rfl
  · rw [if_neg (by omega), sk_n (by omega)]
theorem m_liL_behindObjects (E : E0 σ0 τ0 f N) {to kind k0 : Int} (ht : to ≤ N) (hk0 : 0 ≤ k0) {d : Nat} (hd : 4 ≤ d) : ∀ (n : Nat) (k : Int), k0 ≤ k → k ≤ to → to - k < n → ∀ ρ v5, KM τ0 ρ → 0 ≤ v5 → 2 * v5 ≤ k - k0 → ∃ ρ', KM τ0 ρ' ∧ fr [fM_behindObjects] ρ ρ' ∧ (∀ i, i < v5 → ρ' fM_behindObjects 0 i = ρ fM_behindObjects 0 i) ∧ (liR σ0 kind to n k = none → m_listOf_behindObjects_9 d ρ (f + to) kind v5 (f + k) 1 = some (0, ρ')) ∧ (∀ L, liR σ0 kind to n k = some L → m_listOf_behindObjects_9 d ρ (f + to) kind v5 (f + k) 1 = some (v5 + (L.length : Int), ρ') ∧ ∀ i : Nat, i < L.length → ρ' fM_behindObjects 0 (v5 + i) = L.getD i 0) := by
  have hf := E.1.1
  have hN := E.1.2.1
  have hN5 := E.1.2.2.1
  have wo := e0_o E
  have wo2 := wo.2.1
  intro n
  induction n with
  | zero => intro k h0 h1 h2; omega
  | succ n ih =>
    intro k h0 h1 h2 ρ v5 K v0 v1
    have sg := sgE_r σ0 h1
    obtain ⟨j, ej⟩ : ∃ j, j = sgE σ0 to k := ⟨_, rfl⟩
    have oR := obV_r E k j
    have lik0 : liR σ0 kind to (n + 1) k = if (decide (obV σ0 k j ≠ -1) && isB (σ0 fW_parents 0) (σ0 fW_kindOf 0 (obV σ0 k j)) kind) = true then (if j < to then (liR σ0 kind to n (sgN σ0 to j)).map (fun L => obV σ0 k j :: L) else some [obV σ0 k j]) else none := by
      rw [ej]; rfl
    rw [← ej] at sg
    have ob := m_objectOf2 E K (a := k) (b := j) (by omega) (by omega) (by omega) (d := d) (by omega)
    obtain ⟨o, eo⟩ : ∃ o, o = obV σ0 k j := ⟨_, rfl⟩
    rw [← eo] at lik0 ob oR
    have run0 : m_listOf_behindObjects_9 d ρ (f + to) kind v5 (f + k) 1 = m_listOf_behindObjects_54 d ρ (f + to) kind v5 (f + k) (f + j) := by
      rw [e_m_listOf_behindObjects_9, if_neg (by decide), m_li18_behindObjects E K ht k (by omega) h1, ← ej]
    have fail : liR σ0 kind to (n + 1) k = none → m_listOf_behindObjects_54 d ρ (f + to) kind v5 (f + k) (f + j) = some (0, ρ) → ∃ ρ', KM τ0 ρ' ∧ fr [fM_behindObjects] ρ ρ' ∧ (∀ i, i < v5 → ρ' fM_behindObjects 0 i = ρ fM_behindObjects 0 i) ∧ (liR σ0 kind to (n + 1) k = none → m_listOf_behindObjects_9 d ρ (f + to) kind v5 (f + k) 1 = some (0, ρ')) ∧ (∀ L, liR σ0 kind to (n + 1) k = some L → m_listOf_behindObjects_9 d ρ (f + to) kind v5 (f + k) 1 = some (v5 + (L.length : Int), ρ') ∧ ∀ i : Nat, i < L.length → ρ' fM_behindObjects 0 (v5 + i) = L.getD i 0) := by
      intro z1 z2
      exact ⟨ρ, K, fr_refl _ _, fun _ _ => rfl, fun _ => by rw [run0, z2], fun L hL => by rw [z1] at hL; cases hL⟩
    by_cases z1 : o = -1
    · refine fail ?_ ?_
      · rw [lik0, z1]; rfl
      · rw [e_m_listOf_behindObjects_54, ob, if_pos z1]
        simp only [Option.bind_some]
        rw [if_pos (by trivial)]
    · have oo := oR.resolve_left z1
      have isk := m_isKind E K oo kind (d := d) (by omega)
      rw [if_neg z1] at ob
      have run1 : m_listOf_behindObjects_54 d ρ (f + to) kind v5 (f + k) (f + j) = if b2i (isB (σ0 fW_parents 0) (σ0 fW_kindOf 0 o) kind) = 0 then some (0, ρ) else ga_ck v5 2600 (if f + j < f + to then m_listOf_behindObjects_109 d (ga_up ρ fM_behindObjects 0 v5 o) (f + to) kind (w32 (v5 + 1)) (f + j) 1 else m_listOf_behindObjects_109 d (ga_up ρ fM_behindObjects 0 v5 o) (f + to) kind (w32 (v5 + 1)) (f + j) 0) := by
        rw [e_m_listOf_behindObjects_54, ob]
        simp only [Option.bind_some]
        rw [if_neg (by omega), ck_ok _ (by omega), isk]
        rfl
      cases ib : isB (σ0 fW_parents 0) (σ0 fW_kindOf 0 o) kind with
      | false =>
        refine fail ?_ ?_
        · rw [lik0, ib, Bool.and_false]; rfl
        · rw [run1, ib, if_pos b2i_f]
      | true =>
        rw [ib, decide_eq_true z1, Bool.and_self, if_pos rfl] at lik0
        rw [ib, if_neg b2i_n, ck_ok _ (by omega), w32_ok (x := v5 + 1) (by omega)] at run1
        obtain ⟨ρ2, e2⟩ : ∃ x, x = ga_up ρ fM_behindObjects 0 v5 o := ⟨_, rfl⟩
        have f2 : fr [fM_behindObjects] ρ ρ2 := by rw [e2]; exact fr_u (by decide)
        have K2 : KM τ0 ρ2 := KM_f K f2 (by decide)
        have tk2 : ρ2 fM_token = τ0 fM_token := K2 _ (by decide)
        have keep2 : ∀ i, i < v5 → ρ2 fM_behindObjects 0 i = ρ fM_behindObjects 0 i := fun i hi => by rw [e2, up_i (by omega)]
        have at2 : ρ2 fM_behindObjects 0 v5 = o := by rw [e2, up_eq]
        rw [← e2] at run1
        by_cases q1 : j < to
        · have nr := sgN_r σ0 q1
          rw [if_pos q1] at lik0
          have next : m_listOf_behindObjects_54 d ρ (f + to) kind v5 (f + k) (f + j) = m_listOf_behindObjects_9 d ρ2 (f + to) kind (v5 + 1) (f + sgN σ0 to j) 1 := by
            have x4 : τ0 fM_token 0 (f + j) = 44 ↔ σ0 fT_kinds 0 j = 4 := ENV_is E.1 (k := j) (c := 4) (by omega) (by omega) (by omega)
            have s159 : ∀ s0 : Int, j + 1 + s0 = sgN σ0 to j → m_listOf_behindObjects_159 d ρ2 (f + to) kind (v5 + 1) 1 s0 (f + j + 1) = m_listOf_behindObjects_9 d ρ2 (f + to) kind (v5 + 1) (f + sgN σ0 to j) 1 := by
              intro s0 es
              rw [e_m_listOf_behindObjects_159, w32_ok (by omega), show f + j + 1 + s0 = f + sgN σ0 to j by omega]
            have en : sgN σ0 to j = if σ0 fT_kinds 0 j = 4 ∧ j + 1 < to ∧ σ0 fT_kinds 0 (j + 1) = 25 then j + 2 else j + 1 := rfl
            rw [run1, if_pos (by omega), e_m_listOf_behindObjects_109, if_neg (by decide), ck_ok _ (by omega), tk2, w32_ok (x := f + j + 1) (by omega)]
            by_cases q2 : σ0 fT_kinds 0 j = 4
            · rw [if_pos (x4.mpr q2)]
              by_cases q3 : j + 1 < to
              · have x25 : τ0 fM_token 0 (f + (j + 1)) = 116 ↔ σ0 fT_kinds 0 (j + 1) = 25 := ENV_is E.1 (k := j + 1) (c := 25) (by omega) (by omega) (by omega)
                rw [← Int.add_assoc] at x25
                rw [if_pos (by omega), ck_ok _ (by omega)]
                by_cases q4 : σ0 fT_kinds 0 (j + 1) = 25
                · rw [if_pos ⟨q2, q3, q4⟩] at en
                  rw [if_pos (x25.mpr q4), s159 1 (by omega)]
                · rw [if_neg (fun v => q4 v.2.2)] at en
                  rw [if_neg (fun v => q4 (x25.mp v)), e_m_listOf_behindObjects_158, s159 0 (by omega)]
              · rw [if_neg (fun v => q3 v.2.1)] at en
                rw [if_neg (by omega), e_m_listOf_behindObjects_158, s159 0 (by omega)]
            · rw [if_neg (fun v => q2 v.1)] at en
              rw [if_neg (fun v => q2 (x4.mp v)), e_m_listOf_behindObjects_158, s159 0 (by omega)]
          have jk : k < j := by
            refine Classical.byContradiction fun v => ?_
            have ejk : j = k := by omega
            have ovn : o = -1 := by
              rw [eo, ejk]
              have emp : nmT σ0 (k + artN σ0 k) k = [] := by
                have := artN_r σ0 k
                unfold nmT wsT
                rw [rg_n (by omega)]; rfl
              unfold obV
              rw [emp, dN_nil E]
              split <;> rfl
            exact z1 ovn
          obtain ⟨ρ3, x1, x2, x3, x4, x5⟩ := ih (sgN σ0 to j) (by omega) nr.2 (by push_cast at h2; omega) ρ2 (v5 + 1) K2 (by omega) (by omega)
          refine ⟨ρ3, x1, fr_trans f2 x2, fun i hi => by rw [x3 i (by omega)]; exact keep2 i hi, fun z => ?_, fun L hL => ?_⟩
          · rw [lik0] at z
            rw [run0, next]
            exact x4 (Option.map_eq_none_iff.mp z)
          · rw [lik0] at hL
            obtain ⟨L', hL', eL⟩ := Option.map_eq_some_iff.mp hL
            obtain ⟨y1, y2⟩ := x5 L' hL'
            rw [← eL]
            refine ⟨?_, fun i hi => ?_⟩
            · rw [run0, next, y1, List.length_cons]
              congr 2
              push_cast
              omega
            · cases i with
              | zero =>
                rw [Int.natCast_zero, Int.add_zero, x3 _ (by omega), at2]; rfl
              | succ i =>
                have := y2 i (by rw [List.length_cons] at hi; omega)
                rw [List.getD_cons_succ, ← this]
                congr 1
                push_cast
                omega
        · rw [if_neg q1] at lik0
          refine ⟨ρ2, K2, f2, keep2, fun z => (by rw [lik0] at z; cases z), fun L hL => ?_⟩
          rw [lik0] at hL
          injection hL with hL
          rw [← hL]
          refine ⟨?_, fun i hi => ?_⟩
          · rw [run0, run1, if_neg (by omega), e_m_listOf_behindObjects_109, if_pos rfl, e_m_listOf_behindObjects_158, e_m_listOf_behindObjects_159, e_m_listOf_behindObjects_9, if_pos rfl]
            rfl
          · have : i = 0 := by simp at hi; omega
            rw [this, Int.natCast_zero, Int.add_zero, at2]; rfl
end

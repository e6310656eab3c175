/-! sayings of objects, component -/
/-- whether a comma or and stands ahead -/
def sevB (σ : ga_S) (q : Int) : Bool := (rg 0 q).any (fun j => decide (σ fT_kinds 0 j = 25 ∨ σ fT_kinds 0 j = 4))
/-- the verb there -/
def saV0 (σ : ga_S) (q : Int) : Int := if σ fT_kinds 0 q = 0 then dN σ (nmT σ q (q + 1)) (if sevB σ q = true then 7 else 12) else -1
def saR0 (σ : ga_S) (q : Int) : Int := σ fW_verbRelations 0 (saV0 σ q)
def saLA (σ : ga_S) (q : Int) : Option (List Int) := liR σ (σ fW_relationA 0 (saR0 σ q)) q (q.toNat + 1) 0
def saLB (σ : ga_S) (N : Nat) (q : Int) : Option (List Int) := liR σ (σ fW_relationB 0 (saR0 σ q)) N ((N : Int) - q).toNat (q + 1)
def saG (σ : ga_S) (N : Nat) (q : Int) : Bool := decide (1 ≤ q ∧ q + 1 < N) && decide (saV0 σ q ≠ -1) && (saLA σ q).isSome && (saLB σ N q).isSome
def saL (σ : ga_S) (N : Nat) (q : Int) : List Int := (rg q N).filter (saG σ N)
theorem liR_pos {σ : ga_S} {kind to : Int} : ∀ (n : Nat) (k : Int) (L : List Int), liR σ kind to n k = some L → 0 < L.length := by
  intro n
  cases n with
  | zero => intro k L h; cases h
  | succ n =>
    intro k L h
    unfold liR at h
    by_cases c : sgO σ kind to k = true
    · rw [if_pos c] at h
      by_cases c2 : sgE σ to k < to
      · rw [if_pos c2] at h
        obtain ⟨L', _, e⟩ := Option.map_eq_some_iff.mp h
        rw [← e]; simp
      · rw [if_neg c2] at h
        injection h with h
        rw [← h]; simp
    · rw [if_neg c] at h; cases h
theorem liR_len {σ : ga_S} {kind to : Int} : ∀ (n : Nat) (k : Int) (L : List Int), k ≤ to → liR σ kind to n k = some L → (L.length : Int) ≤ to - k + 1 := by
  intro n
  induction n with
  | zero => intro k L _ h; cases h
  | succ n ih =>
    intro k L hk h
    unfold liR at h
    have sg := sgE_r σ hk
    by_cases c : sgO σ kind to k = true
    · rw [if_pos c] at h
      by_cases c2 : sgE σ to k < to
      · rw [if_pos c2] at h
        obtain ⟨L', h', e⟩ := Option.map_eq_some_iff.mp h
        have nr := sgN_r σ c2
        have := ih (sgN σ to (sgE σ to k)) L' nr.2 h'
        rw [← e, List.length_cons]
        push_cast
        omega
      · rw [if_neg c2] at h
        injection h with h
        rw [← h]
        simp
        omega
    · rw [if_neg c] at h; cases h
theorem sevB_s (σ : ga_S) {q : Int} (h : 0 ≤ q) : sevB σ (q + 1) = (sevB σ q || decide (σ fT_kinds 0 q = 25 ∨ σ fT_kinds 0 q = 4)) := by
  unfold sevB
  rw [rg_snoc 0 h, List.any_append]
  simp
section
variable {σ0 τ0 : ga_S} {f : Int} {N : Nat}
theorem saV0_r (E : E0 σ0 τ0 f N) (q : Int) : saV0 σ0 q = -1 ∨ (0 ≤ saV0 σ0 q ∧ saV0 σ0 q < σ0 fW_verbs 0 0) := by
  unfold saV0
  by_cases z : σ0 fT_kinds 0 q = 0
  · rw [if_pos z]
    by_cases y : sevB σ0 q = true
    · rw [if_pos y]
      have r := e0_dN E (nmT σ0 q (q + 1)) 7
      have m : mxN σ0 7 = σ0 fW_verbs 0 0 := rfl
      omega
    · rw [if_neg y]
      have r := e0_dN E (nmT σ0 q (q + 1)) 12
      have m : mxN σ0 12 = σ0 fW_verbs 0 0 := rfl
      omega
  · rw [if_neg z]; exact Or.inl rfl
theorem k_several_l {ρ : ga_S} (K : KC σ0 ρ) {to : Int} (ht : to ≤ 5000) {d : Nat} (hd : 1 ≤ d) : ∀ q, 0 ≤ q → q ≤ to → ∀ c, 0 ≤ c → c ≤ q → ∃ n, r_several_5 d ρ to c q = some (n, ρ) ∧ (0 < n ↔ (0 < c ∨ (rg q to).any (fun j => decide (σ0 fT_kinds 0 j = 25 ∨ σ0 fT_kinds 0 j = 4)) = true)) := by
  refine rg_ind (n := to) (fun q hq h0 h1 c c0 c1 => ?_) (fun q hq ih h0 h1 c c0 c1 => ?_)
  · rw [e_r_several_5, if_neg (by omega), rg_n hq]
    exact ⟨c, rfl, fun z => Or.inl z, fun z => by rcases z with z | z; exact z; cases z⟩
  · have is := fun (x : Int) => s_r_is (σ := ρ) (d := d) hd (k := q) (by omega) x
    have kk : ρ fT_kinds 0 = σ0 fT_kinds 0 := K.2.1 _ (by decide)
    have any : (rg q to).any (fun j => decide (σ0 fT_kinds 0 j = 25 ∨ σ0 fT_kinds 0 j = 4)) = (decide (σ0 fT_kinds 0 q = 25 ∨ σ0 fT_kinds 0 q = 4) || (rg (q + 1) to).any (fun j => decide (σ0 fT_kinds 0 j = 25 ∨ σ0 fT_kinds 0 j = 4))) := by rw [rg_s hq, List.any_cons]
    have s41 : ∀ s0 : Int, 0 ≤ s0 → s0 ≤ 1 → ∃ n, r_several_41 d ρ to q s0 c = some (n, ρ) ∧ (0 < n ↔ (0 < c + s0 ∨ (rg (q + 1) to).any (fun j => decide (σ0 fT_kinds 0 j = 25 ∨ σ0 fT_kinds 0 j = 4)) = true)) := by
      intro s0 x y
      obtain ⟨n, a1, a2⟩ := ih (by omega) (by omega) (c + s0) (by omega) (by omega)
      exact ⟨n, by rw [e_r_several_41, w32_ok (by omega), w32_ok (by omega), a1], a2⟩
    rw [e_r_several_5, if_pos hq, is, kk]
    simp only [Option.bind_some]
    by_cases z : σ0 fT_kinds 0 q = 25
    · obtain ⟨n, a1, a2⟩ := s41 1 (by omega) (by omega)
      rw [decide_eq_true z, if_neg b2i_n, e_r_several_36]
      refine ⟨n, a1, fun _ => Or.inr ?_, fun _ => a2.mpr (Or.inl (by omega))⟩
      rw [any, decide_eq_true (Or.inl z), Bool.true_or]
    · rw [decide_eq_false z, if_pos b2i_f, is, kk]
      simp only [Option.bind_some]
      by_cases y : σ0 fT_kinds 0 q = 4
      · obtain ⟨n, a1, a2⟩ := s41 1 (by omega) (by omega)
        rw [decide_eq_true y, if_neg b2i_n, e_r_several_36]
        refine ⟨n, a1, fun _ => Or.inr ?_, fun _ => a2.mpr (Or.inl (by omega))⟩
        rw [any, decide_eq_true (Or.inr y), Bool.true_or]
      · obtain ⟨n, a1, a2⟩ := s41 0 (by omega) (by omega)
        rw [decide_eq_false y, if_pos b2i_f]
        refine ⟨n, a1, ?_⟩
        rw [any, decide_eq_false (fun v => v.elim z y), Bool.false_or]
        rw [Int.add_zero] at a2
        exact a2
def vbF : List Nat := fR_readings :: fR_verbAt :: lsF
theorem k_verbs_l (E : E0 σ0 τ0 f N) {d : Nat} (hd : 6 ≤ d) : ∀ i, 1 ≤ i → i ≤ (N : Int) + 1 → ∀ ρ c, KC σ0 ρ → ρ fR_readings 0 0 = c → 0 ≤ c → c ≤ i → ∃ ρ', r_checkVerb_17 d ρ N i = (if ρ' fR_readings 0 0 = 1 then some (0, ρ') else if ρ' fR_readings 0 0 = 0 then r_checkVerb_190 d ρ' 4 else r_checkVerb_190 d ρ' 7) ∧ KC σ0 ρ' ∧ fr vbF ρ ρ' ∧ ρ' fR_readings 0 0 = c + ((saL σ0 N i).length : Int) ∧ (saL σ0 N i = [] → ρ' fR_verbAt 0 0 = ρ fR_verbAt 0 0) ∧ (∀ m, (saL σ0 N i).getLast? = some m → ρ' fR_verbAt 0 0 = m) := by
  have hN5 := E.1.2.2.1
  have wb := e0_b E
  have wr := e0_r E
  have wb2 := wb.2.1
  have wr2 := wr.2.1
  obtain ⟨e, rfl⟩ : ∃ e, d = e + 1 := ⟨d - 1, by omega⟩
  refine rg_ind (n := (N : Int) - 1) (fun i hi h0 h1 ρ c K hr c0 c1 => ?_) (fun i hi ih h0 h1 ρ c K hr c0 c1 => ?_)
  · have emp : saL σ0 N i = [] := by
      unfold saL
      refine List.filter_eq_nil_iff.mpr fun q hq => ?_
      have m := (rg_mem i).mp hq
      unfold saG
      rw [decide_eq_false (p := 1 ≤ q ∧ q + 1 < (N : Int)) (by omega)]
      simp
    rw [e_r_checkVerb_17, w32_ok (by omega), if_neg (by omega), emp]
    exact ⟨ρ, rfl, K, fr_refl _ _, by rw [hr]; simp, fun _ => rfl, fun m hm => by cases hm⟩
  · have kk : ρ fT_kinds 0 = σ0 fT_kinds 0 := K.2.1 _ (by decide)
    obtain ⟨n, s1, s2⟩ := k_several_l K (to := i) (by omega) (d := e) (by omega) 0 (Int.le_refl _) (by omega) 0 (Int.le_refl _) (Int.le_refl _)
    have sev : c_r_several (e + 1) ρ 0 i = some (n, ρ) := by rw [e_r_several, s1]
    have sv : 0 < n ↔ sevB σ0 i = true := by
      rw [s2]
      exact ⟨fun z => z.resolve_left (by omega), fun z => Or.inr z⟩
    have sL : saL σ0 N i = if saG σ0 N i = true then i :: saL σ0 N (i + 1) else saL σ0 N (i + 1) := by
      unfold saL
      rw [rg_s (by omega), List.filter_cons]
    -- the next one
    have skip : ∀ ρ1, KC σ0 ρ1 → fr lsF ρ ρ1 → saG σ0 N i = false → ∃ ρ', r_checkVerb_162 (e + 1) ρ1 N i = (if ρ' fR_readings 0 0 = 1 then some (0, ρ') else if ρ' fR_readings 0 0 = 0 then r_checkVerb_190 (e + 1) ρ' 4 else r_checkVerb_190 (e + 1) ρ' 7) ∧ KC σ0 ρ' ∧ fr vbF ρ ρ' ∧ ρ' fR_readings 0 0 = c + ((saL σ0 N i).length : Int) ∧ (saL σ0 N i = [] → ρ' fR_verbAt 0 0 = ρ fR_verbAt 0 0) ∧ (∀ m, (saL σ0 N i).getLast? = some m → ρ' fR_verbAt 0 0 = m) := by
      intro ρ1 K1 f1 g
      rw [g, if_neg (by decide)] at sL
      obtain ⟨ρ2, a1, a2, a3, a4, a5, a6⟩ := ih (by omega) (by omega) ρ1 c K1 (by rw [f1 _ (by decide)]; exact hr) c0 (by omega)
      rw [sL]
      exact ⟨ρ2, by rw [e_r_checkVerb_162, w32_ok (by omega), a1], a2, fr_trans (fr_sub f1 (by decide)) a3, a4, fun z => by rw [a5 z, f1 _ (by decide)], a6⟩
    obtain ⟨V, eV⟩ : ∃ x, x = saV0 σ0 i := ⟨_, rfl⟩
    have rV := saV0_r E i
    rw [← eV] at rV
    -- the verb
    obtain ⟨ρ1, g1, g2, g3⟩ : ∃ ρ1, r_checkVerb_17 (e + 1) ρ N i = r_checkVerb_70 (e + 1) ρ1 N i V ∧ KC σ0 ρ1 ∧ fr spL ρ ρ1 := by
      rw [e_r_checkVerb_17, w32_ok (by omega), if_pos (by omega), sev]
      simp only [Option.bind_some]
      have s38 : ∀ s0 : Int, (s0 = 0 ↔ sevB σ0 i = false) → ∃ ρ1, r_checkVerb_38 (e + 1) ρ N i s0 = r_checkVerb_70 (e + 1) ρ1 N i V ∧ KC σ0 ρ1 ∧ fr spL ρ ρ1 := by
        intro s0 hs0
        rw [e_r_checkVerb_38, s_r_isFree (by omega) (by omega), kk]
        simp only [Option.bind_some]
        by_cases z : σ0 fT_kinds 0 i = 0
        · have fB : frB σ0 N i (i + 1) := ⟨by omega, by omega, by omega, fun q x y => by
            have : q = i := by omega
            rw [this]; exact z⟩
          rw [decide_eq_true z, if_neg b2i_n]
          unfold saV0 at eV
          rw [if_pos z] at eV
          by_cases y : s0 = 0
          · have sb := hs0.mp y
            obtain ⟨ρ1, a1, a2, _, a4⟩ := k_mean E K fB (d := e + 1) (by omega) 12
            rw [sb, if_neg (by decide)] at eV
            rw [if_pos y, e_r_checkVerb_63, w32_ok (by omega), a1, ← eV]
            exact ⟨ρ1, rfl, a4, a2⟩
          · have sb : sevB σ0 i = true := by
              cases hb : sevB σ0 i with
              | true => rfl
              | false => exact absurd (hs0.mpr hb) y
            obtain ⟨ρ1, a1, a2, _, a4⟩ := k_mean E K fB (d := e + 1) (by omega) 7
            rw [sb, if_pos rfl] at eV
            rw [if_neg y, e_r_checkVerb_63, w32_ok (by omega), a1, ← eV]
            exact ⟨ρ1, rfl, a4, a2⟩
        · rw [decide_eq_false z, if_pos b2i_f]
          unfold saV0 at eV
          rw [if_neg z] at eV
          rw [eV]
          exact ⟨ρ, rfl, K, fr_refl _ _⟩
      by_cases z : 0 < n
      · rw [if_pos z]
        exact s38 1 ⟨fun y => by omega, fun y => by rw [sv.mp z] at y; cases y⟩
      · rw [if_neg z]
        refine s38 0 ⟨fun _ => ?_, fun _ => rfl⟩
        exact b_false (fun y => z (sv.mpr y))
    rw [g1, e_r_checkVerb_70]
    by_cases z : V = -1
    · rw [if_pos z]
      refine skip ρ1 g2 (fr_sub g3 (by decide)) ?_
      unfold saG
      rw [← eV, decide_eq_false (p := V ≠ -1) (fun v => v z), Bool.and_false, Bool.false_and, Bool.false_and]
    · have vr := wb.2.2.2 V (by omega) (by omega)
      obtain ⟨R, eR⟩ : ∃ x, x = saR0 σ0 i := ⟨_, rfl⟩
      have eR' : σ0 fW_verbRelations 0 V = R := by rw [eR, eV]; rfl
      have rr := wr.2.2.2 R (by omega) (by omega)
      obtain ⟨ρ2, x1, x2, x3, x4, x5⟩ := k_listed_l E (to := i) (kind := σ0 fW_relationA 0 R) (at' := 0) (k0 := 0) (by omega) (Int.le_refl _) (Int.le_refl _) (by omega) (d := e) (by omega) (i.toNat + 1) 0 (Int.le_refl _) (by omega) (by omega) ρ1 0 g2 (Int.le_refl _) (Int.le_refl _)
      have eLA : saLA σ0 i = liR σ0 (σ0 fW_relationA 0 R) i (i.toNat + 1) 0 := by rw [eR]; rfl
      rw [← eLA] at x4 x5
      rw [if_neg z, ck_ok _ (by omega), g2.1 fW_verbRelations (by decide), eR', ck_ok _ (by omega), g2.1 fW_relationA (by decide), e_r_listed]
      cases hA : saLA σ0 i with
      | none =>
        rw [x4 hA]
        simp only [Option.bind_some]
        rw [if_pos (by trivial), e_r_checkVerb_139, if_pos rfl]
        refine skip ρ2 x1 (fr_trans (fr_sub g3 (by decide)) x2) ?_
        unfold saG
        rw [hA]
        simp
      | some L =>
        obtain ⟨y1, y2⟩ := x5 L hA
        have len := liR_len (i.toNat + 1) 0 L (by omega) (eLA.symm.trans hA)
        have pos := liR_pos (i.toNat + 1) 0 L (eLA.symm.trans hA)
        rw [Int.zero_add] at y1
        rw [y1]
        simp only [Option.bind_some]
        obtain ⟨ρ3, u1, u2, u3, u4, u5⟩ := k_listed_l E (to := (N : Int)) (kind := σ0 fW_relationB 0 R) (at' := (L.length : Int)) (k0 := i + 1) (Int.le_refl _) (by omega) (by omega) (by omega) (d := e) (by omega) ((N : Int) - i).toNat (i + 1) (Int.le_refl _) (by omega) (by omega) ρ2 0 x1 (Int.le_refl _) (by omega)
        have eLB : saLB σ0 N i = liR σ0 (σ0 fW_relationB 0 R) N ((N : Int) - i).toNat (i + 1) := by rw [eR]; rfl
        rw [← eLB] at u4 u5
        rw [if_neg (by omega), ck_ok _ (by omega), x1.1 fW_relationB (by decide), w32_ok (by omega), e_r_listed]
        cases hB : saLB σ0 N i with
        | none =>
          rw [u4 hB]
          simp only [Option.bind_some]
          rw [e_r_checkVerb_139, if_pos rfl]
          refine skip ρ3 u1 (fr_trans (fr_sub g3 (by decide)) (fr_trans x2 u2)) ?_
          unfold saG
          rw [hB]
          simp
        | some L2 =>
          obtain ⟨w1, w2⟩ := u5 L2 hB
          have gT : saG σ0 N i = true := by
            unfold saG
            rw [hA, hB, ← eV, decide_eq_true (p := V ≠ -1) z, decide_eq_true (p := 1 ≤ i ∧ i + 1 < (N : Int)) (by omega)]
            rfl
          rw [gT, if_pos rfl] at sL
          have f3 : fr lsF ρ ρ3 := fr_trans (fr_sub g3 (by decide)) (fr_trans x2 u2)
          obtain ⟨ρ4, e4⟩ : ∃ x, x = ga_up (ga_up ρ3 fR_readings 0 0 (c + 1)) fR_verbAt 0 0 i := ⟨_, rfl⟩
          have f4 : fr vbF ρ ρ4 := by rw [e4]; exact fr_trans (fr_sub f3 (by decide)) (fr_trans (fr_u (by decide)) (fr_u (by decide)))
          have K4 : KC σ0 ρ4 := KC_f K f4 (by decide)
          have r3 : ρ3 fR_readings 0 0 = c := by rw [f3 _ (by decide)]; exact hr
          obtain ⟨ρ5, t1, t2, t3, t4, t5, t6⟩ := ih (by omega) (by omega) ρ4 (c + 1) K4 (by rw [e4, up_F (by decide), up_eq]) (by omega) (by omega)
          rw [w1]
          simp only [Option.bind_some]
          rw [e_r_checkVerb_139, if_neg (by omega), r3, w32_ok (by omega), ← e4, e_r_checkVerb_162, w32_ok (by omega), t1]
          refine ⟨ρ5, rfl, t2, fr_trans f4 t3, ?_, fun v => ?_, fun m hm => ?_⟩
          · rw [t4, sL, List.length_cons]
            push_cast
            omega
          · rw [sL] at v; cases v
          · rw [sL] at hm
            cases hl : saL σ0 N (i + 1) with
            | nil =>
              rw [hl] at hm
              injection hm with hm
              rw [t5 hl, e4, up_eq]; exact hm
            | cons p r =>
              refine t6 m ?_
              rw [hl] at hm ⊢
              rw [List.getLast?_cons_cons] at hm
              exact hm
end

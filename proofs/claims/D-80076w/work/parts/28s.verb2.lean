/-! sayings of objects, model; the check of sort 20 -/
/-- the lists that the model keeps -/
def saK (σ0 : ga_S) (N : Nat) (τ : ga_S) (m : Int) : Prop := ∃ L1 L2, saLA σ0 m = some L1 ∧ saLB σ0 N m = some L2 ∧ τ fM_aheadCount 0 0 = (L1.length : Int) ∧ τ fM_behindCount 0 0 = (L2.length : Int) ∧ τ fM_saidRelation 0 0 = saR0 σ0 m ∧ (∀ i : Nat, i < L1.length → τ fM_aheadObjects 0 i = L1.getD i 0) ∧ (∀ i : Nat, i < L2.length → τ fM_behindObjects 0 i = L2.getD i 0)
def sayM : List Nat := [fM_spare, fM_aheadObjects, fM_behindObjects, fM_aheadCount, fM_behindCount, fM_saidRelation]
theorem saK_f {σ0 : ga_S} {N : Nat} {τ τ' : ga_S} {m : Int} (h : saK σ0 N τ m) {L : List Nat} (hf : fr L τ τ') (hL : [fM_aheadObjects, fM_behindObjects, fM_aheadCount, fM_behindCount, fM_saidRelation].all (fun F => !(L.contains F)) = true) : saK σ0 N τ' m := by
  unfold saK at h ⊢
  rw [fr_no hf hL (F := fM_aheadObjects) (by decide), fr_no hf hL (F := fM_behindObjects) (by decide), fr_no hf hL (F := fM_aheadCount) (by decide), fr_no hf hL (F := fM_behindCount) (by decide), fr_no hf hL (F := fM_saidRelation) (by decide)]
  exact h
section
variable {σ0 τ0 : ga_S} {f : Int} {N : Nat}
theorem m_verbs_l (E : E0 σ0 τ0 f N) {d : Nat} (hd : 6 ≤ d) : ∀ q, 0 ≤ q → q ≤ (N : Int) → ∀ ρ n, KM τ0 ρ → 0 ≤ n → n ≤ q → ∃ ρ' x, m_askSaying_27 d ρ f (f + N) n (b2i (!(sevB σ0 q))) (f + q) = m_askSaying_249 d ρ' f (n + ((saL σ0 N q).length : Int)) x ∧ (x = if 0 < n + ((saL σ0 N q).length : Int) then 1 else 0) ∧ KM τ0 ρ' ∧ fr sayM ρ ρ' ∧ (0 < n → ∀ m, saK σ0 N ρ m → saK σ0 N ρ' m) ∧ (n = 0 → ∀ m, (saL σ0 N q).head? = some m → saK σ0 N ρ' m) := by
  have hf := E.1.1
  have hN := E.1.2.1
  have hN5 := E.1.2.2.1
  have wb := e0_b E
  have wr := e0_r E
  have wb2 := wb.2.1
  have wr2 := wr.2.1
  obtain ⟨e, rfl⟩ : ∃ e, d = e + 1 := ⟨d - 1, by omega⟩
  refine rg_ind (n := (N : Int)) (fun q hq h0 h1 ρ n K n0 n1 => ?_) (fun q hq ih h0 h1 ρ n K n0 n1 => ?_)
  · have emp : saL σ0 N q = [] := by unfold saL; rw [rg_n hq]; rfl
    rw [emp, e_m_askSaying_27, if_neg (by omega)]
    have e0 : n + (([] : List Int).length : Int) = n := by simp
    rw [e0]
    refine ⟨ρ, if 0 < n then 1 else 0, ?_, rfl, K, fr_refl _ _, fun _ m h => h, fun _ m h => by cases h⟩
    rw [if_app (m_askSaying_249 (e + 1) ρ f n)]
  · have tk : ρ fM_token = τ0 fM_token := K _ (by decide)
    have x25 : τ0 fM_token 0 (f + q) = 116 ↔ σ0 fT_kinds 0 q = 25 := ENV_is E.1 (k := q) (c := 25) h0 (by omega) (by omega)
    have x4 : τ0 fM_token 0 (f + q) = 44 ↔ σ0 fT_kinds 0 q = 4 := ENV_is E.1 (k := q) (c := 4) h0 (by omega) (by omega)
    have x0 : τ0 fM_token 0 (f + q) = 3 ↔ σ0 fT_kinds 0 q = 0 := ENV_is E.1 (k := q) (c := 0) h0 (by omega) (by omega)
    have sL : saL σ0 N q = if saG σ0 N q = true then q :: saL σ0 N (q + 1) else saL σ0 N (q + 1) := by
      unfold saL
      rw [rg_s hq, List.filter_cons]
    -- behind a token
    have nxt : ∀ ρ1 n1', KM τ0 ρ1 → m_askSaying_197 (e + 1) ρ1 f (f + N) n1' (b2i (!(sevB σ0 q))) (f + q) = m_askSaying_27 (e + 1) ρ1 f (f + N) n1' (b2i (!(sevB σ0 (q + 1)))) (f + (q + 1)) := by
      intro ρ1 n1' K1
      have tk1 : ρ1 fM_token = τ0 fM_token := K1 _ (by decide)
      have s231 : ∀ b : Bool, sevB σ0 (q + 1) = b → m_askSaying_231 (e + 1) ρ1 f (f + N) n1' (f + q) (b2i (!b)) = m_askSaying_27 (e + 1) ρ1 f (f + N) n1' (b2i (!(sevB σ0 (q + 1)))) (f + (q + 1)) := by
        intro b hb
        rw [e_m_askSaying_231, w32_ok (by omega), Int.add_assoc, hb]
      have ss := sevB_s σ0 h0
      rw [e_m_askSaying_197, tk1]
      cases hb : sevB σ0 q with
      | true =>
        rw [hb, Bool.true_or] at ss
        have e1 : b2i (!true) = 0 := rfl
        rw [e1, if_pos rfl, e_m_askSaying_230]
        exact s231 true ss
      | false =>
        rw [hb, Bool.false_or] at ss
        have e1 : b2i (!false) = 1 := rfl
        rw [e1, if_neg (by decide), ck_ok _ (by omega)]
        by_cases z : σ0 fT_kinds 0 q = 25
        · rw [decide_eq_true (Or.inl z)] at ss
          rw [if_pos (x25.mpr z), e_m_askSaying_230]
          exact s231 true ss
        · rw [if_neg (fun v => z (x25.mp v)), ck_ok _ (by omega)]
          by_cases y : σ0 fT_kinds 0 q = 4
          · rw [decide_eq_true (Or.inr y)] at ss
            rw [if_pos (x4.mpr y), e_m_askSaying_230]
            exact s231 true ss
          · rw [decide_eq_false (fun v => v.elim z y)] at ss
            rw [if_neg (fun v => y (x4.mp v))]
            exact s231 false ss
    have skip : ∀ ρ1, KM τ0 ρ1 → fr sayM ρ ρ1 → (0 < n → ∀ m, saK σ0 N ρ m → saK σ0 N ρ1 m) → saG σ0 N q = false → ∃ ρ' x, m_askSaying_197 (e + 1) ρ1 f (f + N) n (b2i (!(sevB σ0 q))) (f + q) = m_askSaying_249 (e + 1) ρ' f (n + ((saL σ0 N q).length : Int)) x ∧ (x = if 0 < n + ((saL σ0 N q).length : Int) then 1 else 0) ∧ KM τ0 ρ' ∧ fr sayM ρ ρ' ∧ (0 < n → ∀ m, saK σ0 N ρ m → saK σ0 N ρ' m) ∧ (n = 0 → ∀ m, (saL σ0 N q).head? = some m → saK σ0 N ρ' m) := by
      intro ρ1 K1 f1 k1 g
      rw [g, if_neg (by decide)] at sL
      obtain ⟨ρ2, x, a1, a2, a3, a4, a5, a6⟩ := ih (by omega) (by omega) ρ1 n K1 n0 (by omega)
      rw [sL]
      exact ⟨ρ2, x, by rw [nxt ρ1 n K1, a1], a2, a3, fr_trans f1 a4, fun p m h => a5 p m (k1 p m h), a6⟩
    obtain ⟨V, eV⟩ : ∃ x, x = saV0 σ0 q := ⟨_, rfl⟩
    have rV := saV0_r E q
    rw [← eV] at rV
    -- the verb
    have g1 : m_askSaying_27 (e + 1) ρ f (f + N) n (b2i (!(sevB σ0 q))) (f + q) = m_askSaying_67 (e + 1) ρ f (f + N) n (b2i (!(sevB σ0 q))) (f + q) V := by
      rw [e_m_askSaying_27, if_pos (by omega), ck_ok _ (by omega), tk]
      unfold saV0 at eV
      by_cases z : σ0 fT_kinds 0 q = 0
      · have fB : frB σ0 N q (q + 1) := ⟨h0, by omega, by omega, fun j x y => by
          have : j = q := by omega
          rw [this]; exact z⟩
        rw [if_pos z] at eV
        rw [if_pos (x0.mpr z)]
        cases hb : sevB σ0 q with
        | true =>
          rw [hb, if_pos rfl] at eV
          have mm := m_means E K fB (t := f + q) (n := 1) rfl (by omega) (d := e + 1) (by omega) 9
          rw [mN_dN (s := 7) (ms := 9) (by omega), ← eV] at mm
          have e1 : b2i (!true) = 0 := rfl
          rw [e1, if_pos rfl, e_m_askSaying_60, mm]
          rfl
        | false =>
          rw [hb, if_neg (by decide)] at eV
          have mm := m_means E K fB (t := f + q) (n := 1) rfl (by omega) (d := e + 1) (by omega) 10
          rw [mN_dN (s := 12) (ms := 10) (by omega), ← eV] at mm
          have e1 : b2i (!false) = 1 := rfl
          rw [e1, if_neg (by decide), e_m_askSaying_60, mm]
          rfl
      · rw [if_neg z] at eV
        rw [if_neg (fun v => z (x0.mp v)), eV]
    rw [g1, e_m_askSaying_67]
    by_cases z : V = -1
    · rw [if_pos z]
      refine skip ρ K (fr_refl _ _) (fun _ _ h => h) ?_
      unfold saG
      rw [← eV, decide_eq_false (p := V ≠ -1) (fun v => v z), Bool.and_false, Bool.false_and, Bool.false_and]
    · rw [if_neg z]
      by_cases y1 : 1 ≤ q
      · rw [if_pos (by omega)]
        by_cases y2 : q + 1 < N
        · have vr := wb.2.2.2 V (by omega) (by omega)
          obtain ⟨R, eR⟩ : ∃ x, x = saR0 σ0 q := ⟨_, rfl⟩
          have eR' : σ0 fW_verbRelations 0 V = R := by rw [eR, eV]; rfl
          have rr := wr.2.2.2 R (by omega) (by omega)
          have eLA : saLA σ0 q = liR σ0 (σ0 fW_relationA 0 R) q (q.toNat + 1) 0 := by rw [eR]; rfl
          have eLB : saLB σ0 N q = liR σ0 (σ0 fW_relationB 0 R) N ((N : Int) - q).toNat (q + 1) := by rw [eR]; rfl
          have vm : ρ fM_verbRelation 0 V = R := by rw [K _ (by decide), vr.2.2]; exact eR'
          rw [w32_ok (by omega), if_pos (by omega), ck_ok _ (by omega), vm]
          -- the end of it, where both lists have been read
          have last : ∀ (ρ2 : ga_S) (a b : Int), KM τ0 ρ2 → fr sayM ρ ρ2 → (0 < n → ∀ m, saK σ0 N ρ m → saK σ0 N ρ2 m) → (saLA σ0 q = none → a = 0) → (∀ L, saLA σ0 q = some L → a = (L.length : Int)) → (saLB σ0 N q = none → b = 0) → (∀ L, saLB σ0 N q = some L → b = (L.length : Int)) → (n = 0 → ∀ L1 L2, saLA σ0 q = some L1 → saLB σ0 N q = some L2 → (∀ i : Nat, i < L1.length → ρ2 fM_aheadObjects 0 i = L1.getD i 0) ∧ (∀ i : Nat, i < L2.length → ρ2 fM_behindObjects 0 i = L2.getD i 0)) → ∃ ρ' x, (if 0 < a then if 0 < b then if n = 0 then m_askSaying_194 (e + 1) (ga_up (ga_up (ga_up ρ2 fM_aheadCount 0 0 a) fM_behindCount 0 0 b) fM_saidRelation 0 0 R) f (f + N) n (b2i (!(sevB σ0 q))) (f + q) else m_askSaying_194 (e + 1) ρ2 f (f + N) n (b2i (!(sevB σ0 q))) (f + q) else m_askSaying_197 (e + 1) ρ2 f (f + N) n (b2i (!(sevB σ0 q))) (f + q) else m_askSaying_197 (e + 1) ρ2 f (f + N) n (b2i (!(sevB σ0 q))) (f + q)) = m_askSaying_249 (e + 1) ρ' f (n + ((saL σ0 N q).length : Int)) x ∧ (x = if 0 < n + ((saL σ0 N q).length : Int) then 1 else 0) ∧ KM τ0 ρ' ∧ fr sayM ρ ρ' ∧ (0 < n → ∀ m, saK σ0 N ρ m → saK σ0 N ρ' m) ∧ (n = 0 → ∀ m, (saL σ0 N q).head? = some m → saK σ0 N ρ' m) := by
            intro ρ2 a b K2 f2 k2 a0' a1' b0' b1' en
            cases hA : saLA σ0 q with
            | none =>
              rw [a0' hA, if_neg (by decide)]
              refine skip ρ2 K2 f2 k2 ?_
              unfold saG
              rw [hA]; simp
            | some L1 =>
              have p1 := liR_pos (q.toNat + 1) 0 L1 (eLA.symm.trans hA)
              have ea := a1' L1 hA
              rw [if_pos (by omega)]
              cases hB : saLB σ0 N q with
              | none =>
                rw [b0' hB, if_neg (by decide)]
                refine skip ρ2 K2 f2 k2 ?_
                unfold saG
                rw [hB]; simp
              | some L2 =>
                have p2 := liR_pos ((N : Int) - q).toNat (q + 1) L2 (eLB.symm.trans hB)
                have eb := b1' L2 hB
                have gT : saG σ0 N q = true := by
                  unfold saG
                  rw [hA, hB, ← eV, decide_eq_true (p := V ≠ -1) z, decide_eq_true (p := 1 ≤ q ∧ q + 1 < (N : Int)) ⟨y1, y2⟩]
                  rfl
                rw [gT, if_pos rfl] at sL
                rw [if_pos (by omega)]
                have go : ∀ ρ3, KM τ0 ρ3 → fr sayM ρ ρ3 → (0 < n → ∀ m, saK σ0 N ρ m → saK σ0 N ρ3 m) → (n = 0 → saK σ0 N ρ3 q) → ∃ ρ' x, m_askSaying_194 (e + 1) ρ3 f (f + N) n (b2i (!(sevB σ0 q))) (f + q) = m_askSaying_249 (e + 1) ρ' f (n + ((saL σ0 N q).length : Int)) x ∧ (x = if 0 < n + ((saL σ0 N q).length : Int) then 1 else 0) ∧ KM τ0 ρ' ∧ fr sayM ρ ρ' ∧ (0 < n → ∀ m, saK σ0 N ρ m → saK σ0 N ρ' m) ∧ (n = 0 → ∀ m, (saL σ0 N q).head? = some m → saK σ0 N ρ' m) := by
                  intro ρ3 K3 f3 k3 k4
                  obtain ⟨ρ4, x, c1, c2, c3, c4, c5, c6⟩ := ih (by omega) (by omega) ρ3 (n + 1) K3 (by omega) (by omega)
                  have el : n + 1 + ((saL σ0 N (q + 1)).length : Int) = n + ((saL σ0 N q).length : Int) := by
                    rw [sL, List.length_cons]; push_cast; omega
                  rw [el] at c1 c2
                  refine ⟨ρ4, x, ?_, c2, c3, fr_trans f3 c4, fun p m h => c5 (by omega) m (k3 p m h), fun p m hm => ?_⟩
                  · rw [e_m_askSaying_194, w32_ok (by omega), nxt ρ3 (n + 1) K3, c1]
                  · rw [sL] at hm
                    injection hm with hm
                    rw [← hm]
                    exact c5 (by omega) q (k4 p)
                by_cases nz : n = 0
                · rw [if_pos nz]
                  obtain ⟨ρ3, e3⟩ : ∃ x, x = ga_up (ga_up (ga_up ρ2 fM_aheadCount 0 0 a) fM_behindCount 0 0 b) fM_saidRelation 0 0 R := ⟨_, rfl⟩
                  have f3 : fr [fM_aheadCount, fM_behindCount, fM_saidRelation] ρ2 ρ3 := by rw [e3]; exact fr_trans (fr_trans (fr_u (by decide)) (fr_u (by decide))) (fr_u (by decide))
                  rw [← e3]
                  refine go ρ3 (KM_f K2 f3 (by decide)) (fr_trans f2 (fr_sub f3 (by decide))) (fun p => by omega) (fun _ => ?_)
                  have ent := en nz L1 L2 hA hB
                  refine ⟨L1, L2, hA, hB, ?_, ?_, ?_, fun i hi => ?_, fun i hi => ?_⟩
                  · rw [e3, up_F (by decide), up_F (by decide), up_eq]; exact ea
                  · rw [e3, up_F (by decide), up_eq]; exact eb
                  · rw [e3, up_eq]; exact eR
                  · rw [f3 _ (by decide)]; exact ent.1 i hi
                  · rw [f3 _ (by decide)]; exact ent.2 i hi
                · rw [if_neg nz]
                  exact go ρ2 K2 f2 k2 (fun p => absurd p nz)
          by_cases nz : n = 0
          · -- the first
            obtain ⟨ρ2, u1, u2, u3, u4, u5⟩ := m_liL_aheadObjects E (to := q) (kind := σ0 fW_relationA 0 R) (k0 := 0) (by omega) (Int.le_refl _) (d := e) (by omega) (q.toNat + 1) 0 (Int.le_refl _) (by omega) (by omega) ρ 0 K (Int.le_refl _) (by omega)
            rw [← eLA] at u4 u5
            obtain ⟨a, ra⟩ : ∃ a : Int, c_m_listOf_aheadObjects (e + 1) ρ f (f + q) (σ0 fW_relationA 0 R) = some (a, ρ2) ∧ (saLA σ0 q = none → a = 0) ∧ (∀ L, saLA σ0 q = some L → a = (L.length : Int)) := by
              rw [Int.add_zero] at u4 u5
              rw [e_m_listOf_aheadObjects]
              cases hA : saLA σ0 q with
              | none => exact ⟨0, u4 hA, fun _ => rfl, fun L h => by cases h⟩
              | some L =>
                refine ⟨(L.length : Int), ?_, (fun h => by cases h), fun L' h => ?_⟩
                · have := (u5 L hA).1
                  rw [Int.zero_add] at this
                  exact this
                · injection h with h
                  rw [h]
            obtain ⟨ρ3, t1, t2, t3, t4, t5⟩ := m_liL_behindObjects E (to := (N : Int)) (kind := σ0 fW_relationB 0 R) (k0 := q + 1) (Int.le_refl _) (by omega) (d := e) (by omega) ((N : Int) - q).toNat (q + 1) (Int.le_refl _) (by omega) (by omega) ρ2 0 u1 (Int.le_refl _) (by omega)
            rw [← eLB] at t4 t5
            obtain ⟨b, rb⟩ : ∃ b : Int, c_m_listOf_behindObjects (e + 1) ρ2 (f + (q + 1)) (f + N) (σ0 fW_relationB 0 R) = some (b, ρ3) ∧ (saLB σ0 N q = none → b = 0) ∧ (∀ L, saLB σ0 N q = some L → b = (L.length : Int)) := by
              rw [e_m_listOf_behindObjects]
              cases hB : saLB σ0 N q with
              | none => exact ⟨0, t4 hB, fun _ => rfl, fun L h => by cases h⟩
              | some L =>
                refine ⟨(L.length : Int), ?_, (fun h => by cases h), fun L' h => ?_⟩
                · have := (t5 L hB).1
                  rw [Int.zero_add] at this
                  exact this
                · injection h with h
                  rw [h]
            rw [if_pos nz, e_m_askSaying_117a, ck_ok _ (by omega), K fM_relates (by decide), rr.1.2.2, ra.1]
            simp only [Option.bind_some]
            rw [if_pos nz, e_m_askSaying_150a, ck_ok _ (by omega), u1 fM_relatesTo (by decide), rr.2.2.2, w32_ok (by omega), Int.add_assoc, rb.1]
            simp only [Option.bind_some]
            refine last ρ3 a b t1 (fr_trans (fr_sub u2 (by decide)) (fr_sub t2 (by decide))) (fun p => by omega) ra.2.1 ra.2.2 rb.2.1 rb.2.2 (fun _ L1 L2 h1 h2 => ⟨fun i hi => ?_, fun i hi => ?_⟩)
            · have := (u5 L1 h1).2 i hi
              rw [Int.zero_add] at this
              rw [t2 _ (by decide)]; exact this
            · have := (t5 L2 h2).2 i hi
              rw [Int.zero_add] at this
              exact this
          · -- one more
            obtain ⟨ρ2, u1, u2, u3, u4, u5⟩ := m_liL_spare E (to := q) (kind := σ0 fW_relationA 0 R) (k0 := 0) (by omega) (Int.le_refl _) (d := e) (by omega) (q.toNat + 1) 0 (Int.le_refl _) (by omega) (by omega) ρ 0 K (Int.le_refl _) (by omega)
            rw [← eLA] at u4 u5
            obtain ⟨a, ra⟩ : ∃ a : Int, c_m_listOf_spare (e + 1) ρ f (f + q) (σ0 fW_relationA 0 R) = some (a, ρ2) ∧ (saLA σ0 q = none → a = 0) ∧ (∀ L, saLA σ0 q = some L → a = (L.length : Int)) := by
              rw [Int.add_zero] at u4 u5
              rw [e_m_listOf_spare]
              cases hA : saLA σ0 q with
              | none => exact ⟨0, u4 hA, fun _ => rfl, fun L h => by cases h⟩
              | some L =>
                refine ⟨(L.length : Int), ?_, (fun h => by cases h), fun L' h => ?_⟩
                · have := (u5 L hA).1
                  rw [Int.zero_add] at this
                  exact this
                · injection h with h
                  rw [h]
            obtain ⟨ρ3, t1, t2, t3, t4, t5⟩ := m_liL_spare E (to := (N : Int)) (kind := σ0 fW_relationB 0 R) (k0 := q + 1) (Int.le_refl _) (by omega) (d := e) (by omega) ((N : Int) - q).toNat (q + 1) (Int.le_refl _) (by omega) (by omega) ρ2 0 u1 (Int.le_refl _) (by omega)
            rw [← eLB] at t4 t5
            obtain ⟨b, rb⟩ : ∃ b : Int, c_m_listOf_spare (e + 1) ρ2 (f + (q + 1)) (f + N) (σ0 fW_relationB 0 R) = some (b, ρ3) ∧ (saLB σ0 N q = none → b = 0) ∧ (∀ L, saLB σ0 N q = some L → b = (L.length : Int)) := by
              rw [e_m_listOf_spare]
              cases hB : saLB σ0 N q with
              | none => exact ⟨0, t4 hB, fun _ => rfl, fun L h => by cases h⟩
              | some L =>
                refine ⟨(L.length : Int), ?_, (fun h => by cases h), fun L' h => ?_⟩
                · have := (t5 L hB).1
                  rw [Int.zero_add] at this
                  exact this
                · injection h with h
                  rw [h]
            have f3 : fr [fM_spare] ρ ρ3 := fr_trans u2 t2
            rw [if_neg nz, e_m_askSaying_117, ck_ok _ (by omega), K fM_relates (by decide), rr.1.2.2, ra.1]
            simp only [Option.bind_some]
            rw [if_neg nz, e_m_askSaying_150, ck_ok _ (by omega), u1 fM_relatesTo (by decide), rr.2.2.2, w32_ok (by omega), Int.add_assoc, rb.1]
            simp only [Option.bind_some]
            exact last ρ3 a b t1 (fr_sub f3 (by decide)) (fun _ m h => saK_f h f3 (by decide)) ra.2.1 ra.2.2 rb.2.1 rb.2.2 (fun p => absurd p nz)
        · rw [w32_ok (by omega), if_neg (by omega)]
          refine skip ρ K (fr_refl _ _) (fun _ _ h => h) ?_
          unfold saG
          rw [decide_eq_false (p := 1 ≤ q ∧ q + 1 < (N : Int)) (fun v => y2 v.2)]
          simp
      · rw [if_neg (by omega)]
        refine skip ρ K (fr_refl _ _) (fun _ _ h => h) ?_
        unfold saG
        rw [decide_eq_false (p := 1 ≤ q ∧ q + 1 < (N : Int)) (fun v => y1 v.1)]
        simp
theorem m_end {ρ : ga_S} (E : E0 σ0 τ0 f N) (K : KM τ0 ρ) (h3 : σ0 fT_kinds 0 N = 3) {d : Nat} : ∀ (n : Nat) (q : Int), 0 ≤ q → q + n = N → m_askSaying_2 d ρ f (f + q) = m_askSaying_27 d ρ f (f + N) 0 1 f := by
  have hf := E.1.1
  have hN := E.1.2.1
  intro n
  induction n with
  | zero =>
    intro q h0 hq
    have eq : q = N := by push_cast at hq; omega
    have x3 : τ0 fM_token 0 (f + q) = 46 ↔ σ0 fT_kinds 0 q = 3 := ENV_is E.1 (k := q) (c := 3) h0 (by omega) (by omega)
    rw [e_m_askSaying_2, ck_ok _ (by omega), K fM_token (by decide), if_pos (x3.mpr (by rw [eq]; exact h3)), eq]
  | succ n ih =>
    intro q h0 hq
    push_cast at hq
    have x3 : τ0 fM_token 0 (f + q) = 46 ↔ σ0 fT_kinds 0 q = 3 := ENV_is E.1 (k := q) (c := 3) h0 (by omega) (by omega)
    have no := (E.1.2.2.2.2.2 q h0 (by omega)).1
    rw [e_m_askSaying_2, ck_ok _ (by omega), K fM_token (by decide), if_neg (fun v => no (x3.mp v)), w32_ok (by omega), Int.add_assoc, ih (q + 1) (by omega) (by omega)]
theorem ck_20 (E : E0 σ0 τ0 f N) (hf : σ0 fR_fault 0 0 = 0) (hs : σ0 fR_sort 0 0 = 20) (ht : τ0 fM_sort 0 0 = 20) (hct : σ0 fT_count 0 0 = N + 1) (h3 : σ0 fT_kinds 0 N = 3) (hN1 : 1 ≤ (N : Int)) {d : Nat} (hd : 7 ≤ d) : ∃ σ' τ' c, c_r_check (d + 2) σ0 = some (0, σ') ∧ c_m_asked (d + 2) τ0 f = some (0, τ') ∧ KC σ0 σ' ∧ KM τ0 τ' ∧ FT σ' c ∧ GT τ' c ∧ fr (a0L ++ sayM ++ ntM) τ0 τ' ∧ (c = 1000000 → ∃ m, saL σ0 N 1 = [m] ∧ σ' fR_verbAt 0 0 = m ∧ saK σ0 N τ' m) := by
  obtain ⟨K0, F0, _⟩ := k0_ok hf N
  obtain ⟨M0, G0, _⟩ := a0_ok σ0 τ0 f N
  have hN5 := E.1.2.2.1
  have hf0 := E.1.1
  have kf := k0_fr σ0
  have af := a0_fr τ0
  obtain ⟨σ1, e1⟩ : ∃ x, x = ga_up (k0 σ0) fR_readings 0 0 0 := ⟨_, rfl⟩
  have f1 : fr [fR_readings] (k0 σ0) σ1 := by rw [e1]; exact fr_u (by decide)
  have K1 := KC_f K0 f1 (by decide)
  obtain ⟨σ2, a1, a2, a3, a4, a5, a6⟩ := k_verbs_l E (d := d) (by omega) 1 (Int.le_refl _) (by omega) σ1 0 K1 (by rw [e1, up_eq]) (Int.le_refl _) (by omega)
  have F2 := FT_f (FT_f F0 f1 (by decide)) a3 (by decide)
  rw [Int.zero_add] at a4
  have s01 : saL σ0 N 0 = saL σ0 N 1 := by
    have g0 : saG σ0 N 0 = false := by
      unfold saG
      rw [decide_eq_false (p := 1 ≤ (0 : Int) ∧ (0 : Int) + 1 < (N : Int)) (by omega)]
      simp
    unfold saL
    rw [rg_s (show (0 : Int) < N by omega), List.filter_cons, g0, if_neg (by decide)]
    rfl
  obtain ⟨τ1, x, b1, b2, b3, b4, b5, b6⟩ := m_verbs_l E (d := d) (by omega) 0 (Int.le_refl _) (by omega) (a0 τ0) 0 M0 (Int.le_refl _) (Int.le_refl _)
  rw [Int.zero_add, s01] at b1 b2
  rw [s01] at b6
  obtain ⟨n, en⟩ : ∃ x : Int, x = ((saL σ0 N 1).length : Int) := ⟨_, rfl⟩
  rw [← en] at a4 b1 b2
  obtain ⟨τ2, τ3, c1, c2, c3, c4, c5, c6⟩ := m_two E b3 (GT_f G0 b4 (by decide)) (a := 0) (t := f) (n := n) (by omega) (by omega) (by omega) (d := d) (by omega)
  have sv0 : b2i (!(sevB σ0 0)) = 1 := by
    unfold sevB
    rw [rg_n (Int.le_refl _)]; rfl
  have hM : c_m_asked (d + 2) τ0 f = some (0, τ3) := by
    have s265 : m_askSaying_265 d τ2 f (if n < 2 then 1 else 0) = some (0, τ3) := by rw [e_m_askSaying_265, c2]; rfl
    have run : c_m_askSaying (d + 1) (a0 τ0) f = some (0, τ3) := by
      have me := m_end E M0 h3 (d := d) N 0 (Int.le_refl _) (by omega)
      rw [Int.add_zero] at me
      rw [sv0, Int.add_zero] at b1
      rw [e_m_askSaying, me, b1, e_m_askSaying_249, b2, c1]
      simp only [Option.bind_some]
      rw [if_app (m_askSaying_265 d τ2 f), s265]
    rw [e_m_asked, ht]
    iterate 20 rw [if_neg (by decide)]
    rw [if_pos rfl]
    show ((c_m_askSaying (d + 1) (a0 τ0) f).bind _) = _
    rw [run]
    rfl
  have run17 : c_r_check (d + 2) σ0 = (r_checkVerb_17 d σ1 N 1).bind (fun q => some (0, q.2)) := by
    rw [e_r_check, hs]
    iterate 20 rw [if_neg (by decide)]
    show ((c_r_checkVerb (d + 1) (k0 σ0)).bind _) = _
    rw [e_r_checkVerb, kf fT_count (by decide), hct, show ((N : Int) + 1 - 1) = N by omega, w32_ok (by omega), ← e1]
  have fin : n = 1 → ∃ m, saL σ0 N 1 = [m] ∧ σ2 fR_verbAt 0 0 = m ∧ saK σ0 N τ3 m := by
    intro z
    obtain ⟨m, hm⟩ := List.length_eq_one_iff.mp (show (saL σ0 N 1).length = 1 by omega)
    exact ⟨m, hm, a6 m (by rw [hm]; rfl), saK_f (b6 rfl m (by rw [hm]; rfl)) c3 (by decide)⟩
  have frM : fr (a0L ++ sayM ++ ntM) τ0 τ3 := fr_trans (fr_sub af (by decide)) (fr_trans (fr_sub b4 (by decide)) (fr_sub c3 (by decide)))
  rw [run17, a1, a4]
  unfold cnC at c5
  by_cases z1 : n = 1
  · rw [if_pos z1] at c5
    rw [if_pos z1]
    exact ⟨σ2, τ3, _, rfl, hM, a2, c4, F2, c5, frM, fun _ => fin z1⟩
  · rw [if_neg z1] at c5
    rw [if_neg z1]
    have t0 : (0 : Int) ≤ 0 ∧ (0 : Int) ≤ N := by omega
    by_cases z0 : n = 0
    · obtain ⟨σ3, d1, d2, d3⟩ := k_note E.2.1 hN5 a2 F2 (t := 0) (r := 2) (why := 4) t0 (by omega) (by decide) (d := d) (by omega)
      have cr := cd_r E.2.1 t0 (r := 2) (by omega)
      rw [if_pos z0] at c5
      rw [if_pos z0, e_r_checkVerb_190, d1]
      exact ⟨σ3, τ3, _, rfl, hM, KC_f a2 d2 (by decide), c4, d3, c5, frM, fun y => by omega⟩
    · obtain ⟨σ3, d1, d2, d3⟩ := k_note E.2.1 hN5 a2 F2 (t := 0) (r := 3) (why := 7) t0 (by omega) (by decide) (d := d) (by omega)
      have cr := cd_r E.2.1 t0 (r := 3) (by omega)
      rw [if_neg z0] at c5
      rw [if_neg z0, e_r_checkVerb_190, d1]
      exact ⟨σ3, τ3, _, rfl, hM, KC_f a2 d2 (by decide), c4, d3, c5, frM, fun y => by omega⟩
end

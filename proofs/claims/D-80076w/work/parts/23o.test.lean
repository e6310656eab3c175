/-! a test, whole -/
theorem PR_v {σ τ : ga_S} {f : Int} {N : Nat} (h : PR σ τ f N) {σ' : ga_S} (h1 : σ' fR_p 0 0 = σ fR_p 0 0) (h2 : σ' fR_bad 0 0 = σ fR_bad 0 0) : PR σ' τ f N := by
  unfold PR
  rw [h1, h2]
  exact h
theorem s_r_behindRun {σ τ : ga_S} {f : Int} {N : Nat} (hE : ENV σ τ f N) {d : Nat} (hd : 2 ≤ d) {k : Int} (h0 : 0 ≤ k) (hk : k ≤ N) : c_r_behindRun d σ k = some (frE (σ fT_kinds 0) N k, σ) := by
  obtain ⟨d, rfl⟩ : ∃ e, d = e + 1 := ⟨d - 1, by omega⟩
  have hf := hE.1
  have hN := hE.2.1
  rw [e_r_behindRun]
  have main : ∀ k : Int, 0 ≤ k → k ≤ N → r_behindRun_2 d σ k = some (frE (σ fT_kinds 0) N k, σ) := by
    refine rg_ind (n := (N : Int)) ?_ ?_
    · intro p h h0 h1
      have e : p = N := by omega
      have z : σ fT_kinds 0 p ≠ 0 := by rw [e]; rcases hE.2.2.2.2.1 with z | z <;> omega
      rw [e_r_behindRun_2, s_r_isFree (by omega) (by omega), decide_eq_false z]
      simp only [Option.bind_some]
      rw [if_pos b2i_f]
      unfold frE; rw [sk_x (by omega) (decide_eq_false z)]
    · intro p h ih h0 h1
      rw [e_r_behindRun_2, s_r_isFree (by omega) (by omega)]
      simp only [Option.bind_some]
      by_cases z : σ fT_kinds 0 p = 0
      · rw [decide_eq_true z, if_neg b2i_n, w32_ok (by omega), ih (by omega) (by omega)]
        unfold frE; rw [sk_s (p := p) (by omega) (decide_eq_true z)]
      · rw [decide_eq_false z, if_pos b2i_f]
        unfold frE; rw [sk_x (by omega) (decide_eq_false z)]
  exact main k h0 hk
/-- the .. of begins at a place -/
def ofB (K : Int → Int) (N p : Int) : Bool := decide (K p = 11 ∧ K (p + 1) = 0 ∧ K (frE K N (p + 1)) = 16)
theorem s_m_beginsOf {σ τ : ga_S} {f : Int} {N : Nat} (hE : ENV σ τ f N) {d : Nat} (hd : 1 ≤ d) {p : Int} (h0 : 0 ≤ p) (hp : p ≤ N) : c_m_beginsOf d τ (f + p) = some (b2i (ofB (σ fT_kinds 0) N p), τ) := by
  obtain ⟨d, rfl⟩ : ∃ e, d = e + 1 := ⟨d - 1, by omega⟩
  have hf := hE.1
  have hN := hE.2.1
  have i1 : τ fM_token 0 (f + p) = 102 ↔ σ fT_kinds 0 p = 11 := ENV_is hE h0 hp (c := 11) (by omega)
  rw [e_m_beginsOf, ck_ok _ (by omega)]
  unfold ofB
  by_cases c1 : σ fT_kinds 0 p = 11
  · have lt := ENV_lt hE hp c1 (by omega) (by omega)
    rw [if_pos (i1.mpr c1), w32_ok (by omega)]
    have main : ∀ k : Int, p + 1 ≤ k → k ≤ N → frE (σ fT_kinds 0) N k = frE (σ fT_kinds 0) N (p + 1) → m_beginsOf_17 d τ (f + p) (f + k) = some (b2i (decide (p + 1 < frE (σ fT_kinds 0) N (p + 1) ∧ σ fT_kinds 0 (frE (σ fT_kinds 0) N (p + 1)) = 16)), τ) := by
      have stop : ∀ k : Int, p + 1 ≤ k → k ≤ N → σ fT_kinds 0 k ≠ 0 → frE (σ fT_kinds 0) N k = frE (σ fT_kinds 0) N (p + 1) → m_beginsOf_17 d τ (f + p) (f + k) = some (b2i (decide (p + 1 < frE (σ fT_kinds 0) N (p + 1) ∧ σ fT_kinds 0 (frE (σ fT_kinds 0) N (p + 1)) = 16)), τ) := by
        intro k h1 h2 hz he
        have i0 : τ fM_token 0 (f + k) = 3 ↔ σ fT_kinds 0 k = 0 := ENV_is hE (by omega) h2 (c := 0) (by omega)
        have i16 : τ fM_token 0 (f + k) = 107 ↔ σ fT_kinds 0 k = 16 := ENV_is hE (by omega) h2 (c := 16) (by omega)
        have ek : frE (σ fT_kinds 0) N k = k := by unfold frE; exact sk_x (by omega) (decide_eq_false hz)
        rw [← he, ek, e_m_beginsOf_17, ck_ok _ (by omega), if_neg (fun z => hz (i0.mp z)), w32_ok (by omega)]
        by_cases c2 : p + 1 < k
        · rw [if_pos (by omega), ck_ok _ (by omega)]
          by_cases c3 : σ fT_kinds 0 k = 16
          · rw [if_pos (i16.mpr c3), decide_eq_true ⟨c2, c3⟩]; rfl
          · rw [if_neg (fun z => c3 (i16.mp z)), decide_eq_false (fun z => c3 z.2)]; rfl
        · rw [if_neg (by omega), decide_eq_false (fun z => c2 z.1)]; rfl
      refine rg_ind (n := (N : Int)) ?_ ?_
      · intro k h h1 h2 he
        have e : k = N := by omega
        exact stop k h1 h2 (by rw [e]; rcases hE.2.2.2.2.1 with z | z <;> omega) he
      · intro k h ih h1 h2 he
        by_cases z : σ fT_kinds 0 k = 0
        · have i0 : τ fM_token 0 (f + k) = 3 ↔ σ fT_kinds 0 k = 0 := ENV_is hE (by omega) h2 (c := 0) (by omega)
          have ek : frE (σ fT_kinds 0) N k = frE (σ fT_kinds 0) N (k + 1) := by unfold frE; exact sk_s (by omega) (decide_eq_true z)
          rw [e_m_beginsOf_17, ck_ok _ (by omega), if_pos (i0.mpr z), w32_ok (by omega), show f + k + 1 = f + (k + 1) by omega]
          exact ih (by omega) (by omega) (by rw [← ek]; exact he)
        · exact stop k h1 h2 z he
    rw [show f + p + 1 = f + (p + 1) by omega, main (p + 1) (Int.le_refl _) (by omega) rfl]
    congr 3
    apply decide_eq_decide.mpr
    have F := frE_r hE (p := p + 1) (by omega) (by omega)
    constructor
    · intro z
      exact ⟨c1, F.2.2.2 _ (Int.le_refl _) z.1, z.2⟩
    · intro z
      refine ⟨?_, z.2.2⟩
      by_cases e : frE (σ fT_kinds 0) N (p + 1) = p + 1
      · rw [e] at F; exact absurd z.2.1 F.2.2.1
      · omega
  · rw [if_neg (fun z => c1 (i1.mp z)), decide_eq_false (fun z => c1 z.1)]; rfl
theorem r_run_ok {σ τ σ' : ga_S} {f : Int} {N : Nat} (hE : ENV σ τ f N) (h : PR σ τ f N) {d : Nat} (hd : 2 ≤ d) (hr : 0 ≤ σ fR_runs 0 0 ∧ σ fR_runs 0 0 < 5000) (hb : σ fR_bad 0 0 = -1) (hk : σ fT_kinds 0 (σ fR_p 0 0) = 0) (e : c_r_run d σ = some (0, σ')) : σ' fR_bad 0 0 = -1 := by
  obtain ⟨d, rfl⟩ : ∃ e, d = e + 1 := ⟨d - 1, by omega⟩
  have hf := hE.1
  have hN := hE.2.1
  have hR := h.1
  have E1 : ENV (ga_up σ fR_runFrom 0 (σ fR_runs 0 0) (σ fR_p 0 0)) τ f N := ENV_c hE (up_F (by decide) ..) rfl
  have g1 := s_r_run_38 E1 (d := d) (by omega) (by rw [up_F (by decide)]; exact hr) (σ fR_p 0 0) hR.1 hR.2.1
  rw [show ga_up (ga_up σ fR_runFrom 0 (σ fR_runs 0 0) (σ fR_p 0 0)) fR_p 0 0 (σ fR_p 0 0) = ga_up σ fR_runFrom 0 (σ fR_runs 0 0) (σ fR_p 0 0) from up_id (by rw [up_F (by decide)])] at g1
  rw [e_r_run, if_pos hb, s_r_isFree (by omega) (by omega), decide_eq_true hk] at e
  simp only [Option.bind_some] at e
  rw [if_neg b2i_n, ck_ok _ hr, g1] at e
  rw [← (Prod.mk.inj (Option.some.inj e)).2, up_F (by decide), up_F (by decide), up_F (by decide), up_F (by decide)]
  exact hb
/-- the property of a test: the component's store, the model's run -/
theorem T_prop {σ τ : ga_S} {f : Int} {N : Nat} (hE : ENV σ τ f N) (h : PR σ τ f N) (hJ : JR σ τ) (hb : σ fR_bad 0 0 = -1) {d : Nat} (hd : 3 ≤ d) (hj : 0 ≤ τ fM_tCount 0 0 ∧ τ fM_tCount 0 0 < 1700) (hO : ofB (σ fT_kinds 0) N (σ fR_p 0 0) = true) : ∃ σ' τ', σ' = ga_up (ga_up (ga_up (ga_up (ga_up σ fR_p 0 0 (w32 (σ fR_p 0 0 + 1))) fR_propertyFrom 0 0 (w32 (σ fR_p 0 0 + 1))) fR_p 0 0 (frE (σ fT_kinds 0) N (σ fR_p 0 0 + 1))) fR_propertyTo 0 0 (frE (σ fT_kinds 0) N (σ fR_p 0 0 + 1))) fR_p 0 0 (w32 (frE (σ fT_kinds 0) N (σ fR_p 0 0 + 1) + 1)) ∧ c_m_property0 d τ = some (0, τ') ∧ tsQ σ σ' τ τ' f N (τ fM_tCount 0 0) ∧ τ' fM_tCount = τ fM_tCount ∧ fr (fM_tRun :: rmL) τ τ' ∧ σ' fR_bad 0 0 = -1 ∧ σ' fR_p 0 0 = frE (σ fT_kinds 0) N (σ fR_p 0 0 + 1) + 1 ∧ σ fR_p 0 0 + 1 ≤ frE (σ fT_kinds 0) N (σ fR_p 0 0 + 1) ∧ σ' fR_propertyFrom 0 0 = σ fR_p 0 0 + 1 ∧ σ' fR_propertyTo 0 0 = frE (σ fT_kinds 0) N (σ fR_p 0 0 + 1) ∧ rnR σ' τ' f (τ' fM_tRun 0 (τ fM_tCount 0 0)) (σ' fR_propertyFrom 0 0) (σ' fR_propertyTo 0 0) := by
  have hf := hE.1
  have hN := hE.2.1
  have hR := h.1
  have o := of_decide_eq_true hO
  have lt := ENV_lt hE hR.2.1 o.1 (by omega) (by omega)
  have F := frE_r hE (p := σ fR_p 0 0 + 1) (by omega) (by omega)
  have ltE := ENV_lt hE F.2.1 o.2.2 (by omega) (by omega)
  obtain ⟨d, rfl⟩ : ∃ e, d = e + 1 := ⟨d - 1, by omega⟩
  obtain ⟨v1, σ1, τ1, a1, a2, a3, a4, a5, a6, a7⟩ := P_take' hE h (d := d) (by omega) (c := 11) (m := 102) (by decide) (by omega) (by omega) (by omega)
  have ab := a6.mpr ⟨hb, o.1⟩
  have ap := a7 ab
  have Q1 : tsQ σ σ1 τ τ1 f N (τ fM_tCount 0 0) := PR_Q a3 hJ a4 a5 (fun _ => ⟨hb, Or.inr (by omega)⟩)
  have E1 := tsQ_E Q1 hE
  have k1 : σ1 fT_kinds = σ fT_kinds := a4 _ (by decide)
  have j1 : τ1 fM_tCount 0 0 = τ fM_tCount 0 0 := by rw [a5 _ (by decide)]
  have hB := JR_b Q1.2.1
  obtain ⟨r, σ2, τ2, b1, b2, b3, b4, b5, b6⟩ := P_run E1 a3 (d := d) (by omega) hB.1 hB.2
  obtain ⟨b0, bo⟩ := b6.resolve_left (fun z => z.1 (r_run_ok E1 a3 (by omega) hB.1 ab (by rw [k1, ap]; exact o.2.1) b1))
  have k2 : σ2 fT_kinds = σ fT_kinds := (b4 _ (by decide)).trans k1
  have ok2 := b3.2.resolve_right (fun z => by have := bo.1; omega)
  have J2 : JR σ2 τ2 := JR_run Q1.2.1 E1 (b4 _ (by decide)) (a := σ1 fR_p 0 0) (r := r) (fun _ => ⟨Int.le_refl _, Or.inl rfl⟩) ⟨b0, bo⟩ ok2.2.2.2.1 (by omega)
  have bp := bo.2.2.2.1
  rw [k1, ap] at bp
  have E2 : ENV σ2 τ2 f N := ENV_c E1 (b4 _ (by decide)) (b5 _ (by decide))
  have j2 : τ2 fM_tCount 0 0 = τ fM_tCount 0 0 := by rw [b5 _ (by decide)]; exact j1
  have E3 : ENV σ2 (ga_up τ2 fM_tRun 0 (τ fM_tCount 0 0) r) f N := ENV_c E2 rfl (up_F (by decide) ..)
  have P3 : PR σ2 (ga_up τ2 fM_tRun 0 (τ fM_tCount 0 0) r) f N := PR_c b3 rfl rfl (up_F (by decide) ..) (up_F (by decide) ..) (up_F (by decide) ..)
  obtain ⟨v4, σ4, τ4, c1, c2, c3, c4, c5, c6, c7⟩ := P_take' E3 P3 (d := d) (by omega) (c := 16) (m := 107) (by decide) (by omega) (by omega) (by omega)
  have cb := c6.mpr ⟨bo.1, by rw [k2, bp]; exact o.2.2⟩
  have cp := c7 cb
  rw [bp] at cp
  obtain ⟨σ', eσ'⟩ : ∃ x, x = ga_up (ga_up (ga_up (ga_up (ga_up σ fR_p 0 0 (w32 (σ fR_p 0 0 + 1))) fR_propertyFrom 0 0 (w32 (σ fR_p 0 0 + 1))) fR_p 0 0 (frE (σ fT_kinds 0) N (σ fR_p 0 0 + 1))) fR_propertyTo 0 0 (frE (σ fT_kinds 0) N (σ fR_p 0 0 + 1))) fR_p 0 0 (w32 (frE (σ fT_kinds 0) N (σ fR_p 0 0 + 1) + 1)) := ⟨_, rfl⟩
  have s1 : σ' fR_p 0 0 = frE (σ fT_kinds 0) N (σ fR_p 0 0 + 1) + 1 := by rw [eσ', up_eq, w32_ok (by omega)]
  have s2 : σ' fR_bad 0 0 = -1 := by rw [eσ', up_F (by decide), up_F (by decide), up_F (by decide), up_F (by decide), up_F (by decide)]; exact hb
  have fC : fr [fR_p, fR_propertyFrom, fR_propertyTo] σ σ' := by rw [eσ']; exact fr_trans (fr_trans (fr_trans (fr_trans (fr_u (by decide)) (fr_u (by decide))) (fr_u (by decide))) (fr_u (by decide))) (fr_u (by decide))
  have fM : fr (fM_tRun :: rmL) τ τ4 := fr_trans (fr_sub a5 (by decide)) (fr_trans (fr_sub b5 (by decide)) (fr_trans (fr_u (by decide)) (fr_sub c5 (by decide))))
  have kM : rKeep τ τ4 := rKeep_trans Q1.2.2.2.2.2.2.1 (rKeep_trans (rOk_keep bo) (rKeep_eq (by rw [c5 _ (by decide), up_F (by decide)]) (by rw [c5 _ (by decide), up_F (by decide)]) (by rw [c5 _ (by decide), up_F (by decide)])))
  have kT : tKeep τ τ4 (τ fM_tCount 0 0) := tKeep_trans (tKeep_f a5 (mem_no (by decide))) (tKeep_trans (tKeep_f b5 (mem_no (by decide))) (tKeep_trans tKeep_u (tKeep_f c5 (mem_no (by decide)))))
  have s3 : σ' fR_propertyFrom 0 0 = σ fR_p 0 0 + 1 := by rw [eσ', up_F (by decide), up_F (by decide), up_F (by decide), up_eq, w32_ok (by omega)]
  have s4 : σ' fR_propertyTo 0 0 = frE (σ fT_kinds 0) N (σ fR_p 0 0 + 1) := by rw [eσ', up_F (by decide), up_eq]
  have r4 : τ4 fM_runs 0 0 = τ2 fM_runs 0 0 := by rw [c5 _ (by decide), up_F (by decide)]
  refine ⟨σ', τ4, eσ', ?_, ⟨PR_v c3 (by omega) (by omega), ?_, fr_sub fC (by decide), fr_sub fM (by decide), by rw [fC _ (by decide)], rKeepC_eq (fC _ (by decide)) (fC _ (by decide)), kM, kT⟩, ?_, fM, s2, s1, F.1, s3, s4, ?_⟩
  · rw [e_m_property0, a2]
    simp only [Option.bind_some]
    rw [b2]
    simp only [Option.bind_some]
    rw [j1, ck_ok _ hj, c2]
    rfl
  · obtain ⟨w1, w2, w3, w4⟩ := J2
    obtain ⟨x1, x2, x3, x4⟩ := hJ
    have km := kM.1
    unfold JR
    rw [r4, fC fR_runs (by decide), fC fT_kinds (by decide), s1]
    have w := w4 bo.1
    rw [bp] at w
    exact ⟨x1, by omega, w3, fun _ => ⟨by omega, fun _ => by omega⟩⟩
  · rw [c5 _ (by decide), up_F (by decide), b5 _ (by decide), a5 _ (by decide)]
  · have ra := bo.2.2.2.2.2.2.2.2.2.1 r
    have rz := bo.2.2.2.2.2.2.2.2.2.2 r
    rw [if_pos bo.2.1] at ra rz
    have rs := bo.2.2.2.2.2.2.1
    have er := bo.2.1
    rw [s3, s4, c5 fM_tRun (by decide), up_eq]
    refine ⟨by omega, by omega, ?_, ?_, ?_, ⟨by omega, ENV_st hE (fC _ (by decide)) (by omega)⟩, fun q h1 h2 => ?_⟩
    · rw [c5 _ (by decide), up_F (by decide), ra, ap]
    · rw [c5 _ (by decide), up_F (by decide), rz, ap, bp]
    · have := bo.2.2.1; omega
    · rw [fC _ (by decide)]; exact F.2.2.2 q h1 h2

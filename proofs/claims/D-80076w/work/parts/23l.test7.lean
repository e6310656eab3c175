theorem tlC_eq {σ σ1 : ga_S} {d : Nat} {t : Bool} (h : c_r_takes d σ 15 = some (b2i t, σ1)) (b now : Int) : tlC d σ b now = tlC2 d (ga_up (ga_up σ1 fR_isNot 0 0 (b2i t)) fR_behindFrom 0 0 (σ1 fR_p 0 0)) b now := by
  unfold tlC tlC2
  rw [h]
  simp only [Option.bind_some]
  rw [z1_ok _ (b2i_01 t), up_F (F' := fR_bad) (by decide), up_F (F' := fR_bad) (by decide)]
theorem tlM_eq {τ : ga_S} {d : Nat} {t : Bool} (h : c_m_isNext d τ 106 = some (b2i t, τ)) (hj : 0 ≤ τ fM_tCount 0 0 ∧ τ fM_tCount 0 0 < 1700) (ha : 0 ≤ τ fM_at 0 0 ∧ τ fM_at 0 0 ≤ 5002) (now : Int) : tlM d τ now = tlM2 d (ga_up (ga_up τ fM_tNot 0 (τ fM_tCount 0 0) (b2i t)) fM_at 0 0 (τ fM_at 0 0 + b2i t)) now := by
  unfold tlM
  rw [h]
  simp only [Option.bind_some]
  rw [ck_ok _ hj, z1_ok _ (b2i_01 t), ck_ok _ hj, up_eq]
  cases t with
  | true => rw [if_neg b2i_n, e_m_test_240, w32_ok (by omega)]; rfl
  | false => rw [if_pos b2i_f, e_m_test_240, w32_ok (by omega)]; rfl
/-- what stands behind is, without a property -/
theorem T_r1 {σ τ : ga_S} {f : Int} {N : Nat} (hE : ENV σ τ f N) (h : PR σ τ f N) (hJ : JR σ τ) {d : Nat} (hd : 6 ≤ d) {now b : Int} (hT : σ fR_bad 0 0 = -1 → toT (σ fT_kinds 0) now (σ fR_p 0 0) b) (hj : 0 ≤ τ fM_tCount 0 0 ∧ τ fM_tCount 0 0 < 1700) : ∃ σ' τ', tlC d σ b now = some (0, σ') ∧ tlM d τ now = some (0, τ') ∧ tsR σ σ' τ τ' f N b (τ fM_tCount 0 0) ∧ σ' fR_thingFrom 0 0 = σ fR_thingFrom 0 0 ∧ σ' fR_thingTo 0 0 = σ fR_thingTo 0 0 ∧ thK τ τ' ∧ τ' fM_tThingRun = τ fM_tThingRun ∧ (σ' fR_bad 0 0 = -1 → nE (τ' fM_tNot 0 (τ fM_tCount 0 0)) (σ' fR_isNot 0 0) ∧ rw1 σ' τ' f b (τ fM_tCount 0 0) ∧ (σ' fR_form 0 0 = 1 → (σ fR_p 0 0 ≤ σ' fR_placeFrom 0 0 ∧ σ' fR_placeTo 0 0 ≤ b) ∧ now = 0)) := by
  have hf := hE.1
  have hN := hE.2.1
  have hR := h.1
  have go : ∀ (t : Bool) (σ1 : ga_S), c_r_takes d σ 15 = some (b2i t, σ1) → c_m_isNext d τ 106 = some (b2i t, τ) → PR σ1 (ga_up τ fM_at 0 0 (τ fM_at 0 0 + b2i t)) f N → JR σ1 (ga_up τ fM_at 0 0 (τ fM_at 0 0 + b2i t)) → fr [fR_p] σ σ1 → σ fR_p 0 0 ≤ σ1 fR_p 0 0 → (σ1 fR_bad 0 0 = -1 → toT (σ1 fT_kinds 0) now (σ1 fR_p 0 0) b) → ∃ σ' τ', tlC d σ b now = some (0, σ') ∧ tlM d τ now = some (0, τ') ∧ tsR σ σ' τ τ' f N b (τ fM_tCount 0 0) ∧ σ' fR_thingFrom 0 0 = σ fR_thingFrom 0 0 ∧ σ' fR_thingTo 0 0 = σ fR_thingTo 0 0 ∧ thK τ τ' ∧ τ' fM_tThingRun = τ fM_tThingRun ∧ (σ' fR_bad 0 0 = -1 → nE (τ' fM_tNot 0 (τ fM_tCount 0 0)) (σ' fR_isNot 0 0) ∧ rw1 σ' τ' f b (τ fM_tCount 0 0) ∧ (σ' fR_form 0 0 = 1 → (σ fR_p 0 0 ≤ σ' fR_placeFrom 0 0 ∧ σ' fR_placeTo 0 0 ≤ b) ∧ now = 0)) := by
    intro t σ1 h1 h2 P1 J1 f1 hp1 hT1
    have Q1 : tsQ σ σ1 τ (ga_up τ fM_at 0 0 (τ fM_at 0 0 + b2i t)) f N (τ fM_tCount 0 0) := ⟨P1, J1, fr_sub f1 (by decide), fr_u (by decide), by rw [f1 _ (by decide)], rKeepC_eq (f1 _ (by decide)) (f1 _ (by decide)), rKeep_eq (up_F (by decide) ..) (up_F (by decide) ..) (up_F (by decide) ..), tKeep_f (L := [fM_at]) (fr_u (by decide)) (mem_no (by decide))⟩
    have Q2 : tsQ σ1 (ga_up (ga_up σ1 fR_isNot 0 0 (b2i t)) fR_behindFrom 0 0 (σ1 fR_p 0 0)) (ga_up τ fM_at 0 0 (τ fM_at 0 0 + b2i t)) (ga_up (ga_up τ fM_at 0 0 (τ fM_at 0 0 + b2i t)) fM_tNot 0 (τ fM_tCount 0 0) (b2i t)) f N (τ fM_tCount 0 0) := tsQ_up P1 J1 (LC := [fR_isNot, fR_behindFrom]) (LM := [fM_tNot]) (fr_trans (fr_u (by decide)) (fr_u (by decide))) (fr_u (by decide)) (by decide) (by decide) tKeep_u
    rw [up_comm (F := fM_at) (F' := fM_tNot) (by decide)] at Q2
    have E2 := tsQ_E Q2 (tsQ_E Q1 hE)
    have j2 : (ga_up (ga_up τ fM_tNot 0 (τ fM_tCount 0 0) (b2i t)) fM_at 0 0 (τ fM_at 0 0 + b2i t)) fM_tCount 0 0 = τ fM_tCount 0 0 := by rw [up_F (by decide), up_F (by decide)]
    obtain ⟨σ', τ', e1, e2, ⟨e3, e3a, e3b⟩, e4, e5, e6, e7, e8, e9, e10⟩ := T_r1b E2 Q2.1 Q2.2.1 hd (now := now) (b := b) (by rw [up_F (F' := fR_bad) (by decide), up_F (F' := fR_bad) (by decide), up_F (F' := fT_kinds) (by decide), up_F (F' := fT_kinds) (by decide), up_F (F' := fR_p) (by decide), up_F (F' := fR_p) (by decide)]; exact hT1) (by rw [up_eq, up_F (by decide), up_F (by decide)]) (by rw [j2]; exact hj)
    rw [j2] at e3 e3a e10
    refine ⟨σ', τ', by rw [tlC_eq h1]; exact e1, by rw [tlM_eq h2 hj (by omega)]; exact e2, ⟨tsQ_trans Q1 (tsQ_trans Q2 e3), e3a, fun z => ?_⟩, ?_, ?_, ?_, ?_, fun z => ⟨?_, (e10 z).1, fun y => ?_⟩⟩
    · have q := e3b z
      rw [up_F (by decide), up_F (by decide), f1 _ (by decide)] at q
      exact q
    · rw [e4, up_F (by decide), up_F (by decide), f1 _ (by decide)]
    · rw [e5, up_F (by decide), up_F (by decide), f1 _ (by decide)]
    · exact ⟨by rw [e7.1, up_F (by decide), up_F (by decide)], by rw [e7.2, up_F (by decide), up_F (by decide)]⟩
    · rw [e8, up_F (by decide), up_F (by decide)]
    · unfold nE
      rw [e9, up_F (by decide), up_eq, e6, up_F (by decide), up_eq]
      exact ⟨rfl, b2i_01 t⟩
    · have := (e10 z).2 y
      rw [up_F (by decide), up_F (by decide)] at this
      exact ⟨⟨by omega, this.1.2⟩, this.2⟩
  by_cases cb : σ fR_bad 0 0 = -1
  · have ok := h.2.resolve_right (fun z => by omega)
    have t1 := s_r_takes hE h (d := d) (by omega) 15
    have t2 := s_nx hE h (d := d) (by omega) (c := 15) (m := 106) (by decide) (by omega)
    by_cases c : σ fT_kinds 0 (σ fR_p 0 0) = 15
    · obtain ⟨P1, lt, ea⟩ := PR_1 hE h ⟨cb, c⟩ (by omega) (by omega)
      rw [decide_eq_true ⟨cb, c⟩] at t1 t2
      rw [if_pos ⟨cb, c⟩] at t1
      refine go true _ t1 t2 P1 ?_ (fr_u (by decide)) (by rw [up_eq]; omega) (fun _ => ?_)
      · exact JR_mv hJ (by rw [up_F (by decide)]) (by rw [up_F (by decide)]) (up_F (by decide) ..) (fun _ => ⟨cb, Or.inr (by rw [up_eq]; omega)⟩)
      · obtain ⟨q1, q2, q3⟩ := hT cb
        rw [up_F (by decide), up_eq]
        refine ⟨?_, q2, fun q a b => q3 q (by omega) b⟩
        by_cases e : σ fR_p 0 0 = b
        · rw [← e, c] at q2
          unfold endT at q2
          omega
        · omega
    · rw [decide_eq_false (fun z => c z.2)] at t1 t2
      rw [if_neg (fun z => c z.2)] at t1
      have e0 : ga_up τ fM_at 0 0 (τ fM_at 0 0 + b2i false) = τ := up_id (by rw [b2i_f]; omega)
      exact go false σ t1 t2 (by rw [e0]; exact h) (by rw [e0]; exact hJ) (fr_refl _ _) (Int.le_refl _) hT
  · have bad := (h.2.resolve_left (fun z => cb z.1)).2.2.1
    have e0 : ga_up τ fM_at 0 0 (τ fM_at 0 0 + b2i false) = τ := up_id (by rw [b2i_f]; omega)
    exact go false σ (by rw [cb_takes (by omega) cb (by omega)]; rfl) (by rw [mb_isNext (by omega) bad]; rfl) (by rw [e0]; exact h) (by rw [e0]; exact hJ) (fr_refl _ _) (Int.le_refl _) (fun z => absurd z cb)

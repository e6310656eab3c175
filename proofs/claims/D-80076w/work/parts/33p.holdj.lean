/-! an adjective is told of an object, of a kind: on both sides -/
theorem hold_O {σ τ : ga_S} (Wa : WKa σ τ) (R : RWt σ τ) (hf : σ fR_fault 0 0 = 0) {o a t a2 w : Int} (ho : 0 ≤ o ∧ o < σ fW_objects 0 0) (ho2 : σ fW_objects 0 0 ≤ 24) (hob : σ fW_objects 0 0 ≤ 24) (hk0 : 0 ≤ σ fW_kinds 0 0) (ha : 0 ≤ a ∧ a < σ fW_adjectives 0 0) (hc : σ fW_contraries 0 a ≠ -1) (hm : (a2 = a ∧ w = 1) ∨ (a2 = σ fW_contraries 0 a ∧ w = 0)) (ht : 0 ≤ t ∧ t < 5002) {d d' : Nat} (hd : 3 ≤ d) (hd' : 1 ≤ d') : ∃ b σ' τ', c_r_hold d σ (o) a t = some (b, σ') ∧ c_m_tellIs_objectIs d' τ (24 * o) a2 w = some (b, τ') ∧ fr (fW_told :: ntL) σ σ' ∧ fr [fM_objectIs] τ τ' ∧ ((b = 1 ∧ fr [fW_told] σ σ' ∧ RWt σ' τ') ∨ (b = 0 ∧ τ' = τ ∧ σ' fR_fault 0 0 = 5 ∧ σ' fR_where 0 0 = σ fT_places 0 t)) := by
  obtain ⟨A1, A2, A3, A4⟩ := Wa
  obtain ⟨c, ec⟩ : ∃ x, x = σ fW_contraries 0 a := ⟨_, rfl⟩
  have wa := (A4 a ha.1 ha.2).2.resolve_left (fun z => hc z.1)
  rw [← ec] at wa hc hm
  obtain ⟨c0, c1, c2, c3, c4, c5, c6⟩ := wa
  have wc := (A4 c c0 c1).2.resolve_left (fun z => by rw [c3] at z; omega)
  rw [c3] at wc
  obtain ⟨RO, RK, RZ⟩ := R
  have ra := RO o ho.1 ho.2 a ha.1 (by omega)
  have rc := RO o ho.1 ho.2 c c0 (by omega)
  have ra2 := ra.2.resolve_right (fun z => by rw [← ec] at z; omega)
  have rc2 := rc.2.resolve_right (fun z => by rw [c3] at z; omega)
  have ta : tv σ (o) a = (if σ fW_told (o) a = 0 then (if σ fW_told (o) c = 0 then 0 else 2) else 1) := by unfold tv; rw [← ec]
  have tc : tv σ (o) c = (if σ fW_told (o) c = 0 then (if σ fW_told (o) a = 0 then 0 else 2) else 1) := by unfold tv; rw [c3]
  have xa : τ fM_objectIs 0 (24 * o + a) = tv σ (o) a := ra2.2.2.1
  have xc : τ fM_objectIs 0 (24 * o + c) = tv σ (o) c := rc2.2.2.1
  have ex : σ fW_told (o) a = 0 ∨ σ fW_told (o) c = 0 := by have := ra2.2.2.2; rw [← ec] at this; exact this
  obtain ⟨d, rfl⟩ : ∃ e, d = e + 1 := ⟨d - 1, by omega⟩
  obtain ⟨d', rfl⟩ : ∃ e, d' = e + 1 := ⟨d' - 1, by omega⟩
  have runC := e_r_hold d σ (o) a t
  rw [ck_ok _ (by omega), ck_ok _ (by omega), nn_ok _ (by omega), ← ec, ck_ok _ (by omega)] at runC
  have runM := e_m_tellIs_objectIs d' τ (24 * o) a2 w
  have b2 : 0 ≤ a2 ∧ a2 < 24 := by omega
  rw [w32_ok (x := 24 * o + a2) (by omega), ck_ok _ (by omega)] at runM
  by_cases q : σ fW_told (o) c = 0
  · rw [if_pos q, ck_ok _ (by omega), nn_ok _ (by omega), ck_ok _ (by omega)] at runC
    obtain ⟨σ', e2⟩ : ∃ x, x = ga_up σ fW_told (o) a 1 := ⟨_, rfl⟩
    rw [← e2] at runC
    have f2 : fr [fW_told] σ σ' := by rw [e2]; exact fr_u (by decide)
    have x1 : ∀ r i, σ' fW_told r i = if r = o ∧ i = a then 1 else σ fW_told r i := by intro r i; rw [e2, up_nat]
    have mod : ∃ τ', c_m_tellIs_objectIs (d' + 1) τ (24 * o) a2 w = some (1, τ') ∧ fr [fM_objectIs] τ τ' ∧ (∀ i, τ' fM_objectIs 0 i = if i = 24 * o + a then 1 else if i = 24 * o + c then 2 else τ fM_objectIs 0 i) := by
      rcases hm with ⟨m1, m2⟩ | ⟨m1, m2⟩
      · rw [m1, m2] at runM
        rw [if_neg (by decide), e_m_tellIs_objectIs_19, xa, ta] at runM
        rw [if_neg (by by_cases z : σ fW_told (o) a = 0
                       · rw [if_pos z, if_pos q]; decide
                       · rw [if_neg z]; decide), if_neg (by decide), e_m_tellIs_objectIs_37, ck_ok _ (by omega), ck_ok _ (by omega), c5, if_neg hc, ck_ok _ (by omega), if_neg (by decide), e_m_tellIs_objectIs_67, w32_ok (x := 24 * o + c) (by omega), ck_ok _ (by omega)] at runM
        refine ⟨_, by rw [m1, m2]; exact runM, fr_trans (fr_u (by decide)) (fr_u (by decide)), fun i => ?_⟩
        rw [up_at, up_at]
        by_cases z1 : i = 24 * o + c
        · rw [if_pos z1, if_neg (by omega), if_pos z1]
        · rw [if_neg z1, if_neg z1]
      · rw [m1, m2] at runM
        rw [if_pos rfl, e_m_tellIs_objectIs_19, xc, tc, if_pos q] at runM
        rw [if_neg (by by_cases z : σ fW_told (o) a = 0
                       · rw [if_pos z]; decide
                       · rw [if_neg z]; decide), if_pos rfl, e_m_tellIs_objectIs_37, ck_ok _ (by omega), ck_ok _ (by omega), wc.2.2.2.2.2.1, if_neg (by omega), ck_ok _ (by omega), if_pos rfl, e_m_tellIs_objectIs_67, w32_ok (x := 24 * o + a) (by omega), ck_ok _ (by omega)] at runM
        refine ⟨_, by rw [m1, m2]; exact runM, fr_trans (fr_u (by decide)) (fr_u (by decide)), fun i => ?_⟩
        rw [up_at, up_at]
    obtain ⟨τ', k1, k2, k3⟩ := mod
    have y1 : ∀ r, σ' fW_told r a = if r = o then 1 else σ fW_told r a := by
      intro r; rw [x1]
      by_cases z : r = o
      · rw [if_pos ⟨z, rfl⟩, if_pos z]
      · rw [if_neg (fun y => z y.1), if_neg z]
    have y2 : ∀ r i, i ≠ a → σ' fW_told r i = σ fW_told r i := by
      intro r i z; rw [x1, if_neg (fun y => z y.2)]
    refine ⟨1, σ', τ', runC, k1, fr_sub f2 (by decide), k2, Or.inl ⟨rfl, f2, ?_⟩⟩
    have rowS : ∀ (F : Nat) (base r : Int), r ≠ o → rowT σ τ F base r → (∀ i, 0 ≤ i → i < 24 → τ' F 0 (base + i) = τ F 0 (base + i)) → rowT σ' τ' F base r := by
      intro F base r nr h hF i i0 i1
      have w := h i i0 i1
      have t1 : ∀ j, σ' fW_told r j = σ fW_told r j := by intro j; rw [x1, if_neg (fun y => nr y.1)]
      unfold tv at w ⊢
      rw [t1, t1, f2 fW_adjectives (by decide), f2 fW_contraries (by decide), hF i i0 i1]
      exact w
    have rowN : rowT σ' τ' fM_objectIs (24 * o) (o) := by
      intro i i0 i1
      have w := RO o ho.1 ho.2 i i0 i1
      rw [f2 fW_adjectives (by decide), f2 fW_contraries (by decide), k3]
      by_cases z : i = a
      · rw [z, if_pos rfl, y1, if_pos rfl]
        refine ⟨Or.inr rfl, Or.inl ⟨ha.2, by rw [← ec]; exact hc, ?_, Or.inr ?_⟩⟩
        · unfold tv; rw [y1, if_pos rfl, if_neg (by decide)]
        · rw [← ec, y2 _ _ c2]; exact q
      · rw [if_neg (by omega), y2 _ _ z]
        by_cases z2 : i = c
        · rw [z2, if_pos rfl]
          refine ⟨Or.inl q, Or.inl ⟨c1, by rw [c3]; omega, ?_, Or.inl q⟩⟩
          unfold tv
          rw [y2 _ _ c2, if_pos q, f2 fW_contraries (by decide), c3, y1, if_pos rfl, if_neg (by decide)]
        · rw [if_neg (by omega)]
          refine ⟨w.1, ?_⟩
          rcases w.2 with w2 | w2
          · have wi := (A4 i i0 w2.1).2.resolve_left (fun y => w2.2.1 y.1)
            have na : σ fW_contraries 0 i ≠ a := fun y => by
              have := wi.2.2.2.1
              rw [y, ← ec] at this
              exact z2 this.symm
            refine Or.inl ⟨w2.1, w2.2.1, ?_, by rw [y2 _ _ na]; exact w2.2.2.2⟩
            rw [w2.2.2.1]
            unfold tv
            rw [y2 _ _ z, f2 fW_contraries (by decide), y2 _ _ na]
          · exact Or.inr w2
    refine ⟨fun o' a0 a1 => ?_, fun k' a0 a1 => ?_, fun r i z i0 i1 => ?_⟩
    · rw [f2 fW_objects (by decide)] at a1
      by_cases z : o' = o
      · rw [z]; exact rowN
      · refine rowS _ _ _ (by omega) (RO o' a0 a1) (fun i i0 i1 => ?_)
        rw [k3, if_neg (by omega), if_neg (by omega)]
    · rw [f2 fW_kinds (by decide)] at a1
      refine rowS _ _ _ (by omega) (RK k' a0 a1) (fun i i0 i1 => ?_)
      rw [k2 fM_kindIs (by decide)]
    · rw [f2 fW_objects (by decide), f2 fW_kinds (by decide)] at z
      rw [x1, if_neg (by omega)]
      exact RZ r i z i0 i1
  · obtain ⟨σ', o1, o2, o3, o4⟩ := k_otherwise hf ht (d := d) (by omega)
    rw [if_neg q, o1] at runC
    simp only [Option.bind_some] at runC
    rw [z1_ok _ (Or.inl rfl)] at runC
    have a0 : σ fW_told (o) a = 0 := by omega
    refine ⟨0, σ', τ, runC, ?_, fr_sub o2 (by decide), fr_refl _ _, Or.inr ⟨rfl, rfl, o3, o4⟩⟩
    rcases hm with ⟨m1, m2⟩ | ⟨m1, m2⟩
    · rw [m1, m2] at runM ⊢
      rw [if_neg (by decide), e_m_tellIs_objectIs_19, xa, ta, if_pos a0, if_neg q, if_pos rfl] at runM
      exact runM
    · rw [m1, m2] at runM ⊢
      rw [if_pos rfl, e_m_tellIs_objectIs_19, xc, tc, if_neg q, if_pos rfl] at runM
      exact runM
theorem hold_K {σ τ : ga_S} (Wa : WKa σ τ) (R : RWt σ τ) (hf : σ fR_fault 0 0 = 0) {o a t a2 w : Int} (ho : 0 ≤ o ∧ o < σ fW_kinds 0 0) (ho2 : σ fW_kinds 0 0 ≤ 16) (hob : σ fW_objects 0 0 ≤ 24) (hk0 : 0 ≤ σ fW_kinds 0 0) (ha : 0 ≤ a ∧ a < σ fW_adjectives 0 0) (hc : σ fW_contraries 0 a ≠ -1) (hm : (a2 = a ∧ w = 1) ∨ (a2 = σ fW_contraries 0 a ∧ w = 0)) (ht : 0 ≤ t ∧ t < 5002) {d d' : Nat} (hd : 3 ≤ d) (hd' : 1 ≤ d') : ∃ b σ' τ', c_r_hold d σ (24 + o) a t = some (b, σ') ∧ c_m_tellIs_kindIs d' τ (24 * o) a2 w = some (b, τ') ∧ fr (fW_told :: ntL) σ σ' ∧ fr [fM_kindIs] τ τ' ∧ ((b = 1 ∧ fr [fW_told] σ σ' ∧ RWt σ' τ') ∨ (b = 0 ∧ τ' = τ ∧ σ' fR_fault 0 0 = 5 ∧ σ' fR_where 0 0 = σ fT_places 0 t)) := by
  obtain ⟨A1, A2, A3, A4⟩ := Wa
  obtain ⟨c, ec⟩ : ∃ x, x = σ fW_contraries 0 a := ⟨_, rfl⟩
  have wa := (A4 a ha.1 ha.2).2.resolve_left (fun z => hc z.1)
  rw [← ec] at wa hc hm
  obtain ⟨c0, c1, c2, c3, c4, c5, c6⟩ := wa
  have wc := (A4 c c0 c1).2.resolve_left (fun z => by rw [c3] at z; omega)
  rw [c3] at wc
  obtain ⟨RO, RK, RZ⟩ := R
  have ra := RK o ho.1 ho.2 a ha.1 (by omega)
  have rc := RK o ho.1 ho.2 c c0 (by omega)
  have ra2 := ra.2.resolve_right (fun z => by rw [← ec] at z; omega)
  have rc2 := rc.2.resolve_right (fun z => by rw [c3] at z; omega)
  have ta : tv σ (24 + o) a = (if σ fW_told (24 + o) a = 0 then (if σ fW_told (24 + o) c = 0 then 0 else 2) else 1) := by unfold tv; rw [← ec]
  have tc : tv σ (24 + o) c = (if σ fW_told (24 + o) c = 0 then (if σ fW_told (24 + o) a = 0 then 0 else 2) else 1) := by unfold tv; rw [c3]
  have xa : τ fM_kindIs 0 (24 * o + a) = tv σ (24 + o) a := ra2.2.2.1
  have xc : τ fM_kindIs 0 (24 * o + c) = tv σ (24 + o) c := rc2.2.2.1
  have ex : σ fW_told (24 + o) a = 0 ∨ σ fW_told (24 + o) c = 0 := by have := ra2.2.2.2; rw [← ec] at this; exact this
  obtain ⟨d, rfl⟩ : ∃ e, d = e + 1 := ⟨d - 1, by omega⟩
  obtain ⟨d', rfl⟩ : ∃ e, d' = e + 1 := ⟨d' - 1, by omega⟩
  have runC := e_r_hold d σ (24 + o) a t
  rw [ck_ok _ (by omega), ck_ok _ (by omega), nn_ok _ (by omega), ← ec, ck_ok _ (by omega)] at runC
  have runM := e_m_tellIs_kindIs d' τ (24 * o) a2 w
  have b2 : 0 ≤ a2 ∧ a2 < 24 := by omega
  rw [w32_ok (x := 24 * o + a2) (by omega), ck_ok _ (by omega)] at runM
  by_cases q : σ fW_told (24 + o) c = 0
  · rw [if_pos q, ck_ok _ (by omega), nn_ok _ (by omega), ck_ok _ (by omega)] at runC
    obtain ⟨σ', e2⟩ : ∃ x, x = ga_up σ fW_told (24 + o) a 1 := ⟨_, rfl⟩
    rw [← e2] at runC
    have f2 : fr [fW_told] σ σ' := by rw [e2]; exact fr_u (by decide)
    have x1 : ∀ r i, σ' fW_told r i = if r = 24 + o ∧ i = a then 1 else σ fW_told r i := by intro r i; rw [e2, up_nat]
    have mod : ∃ τ', c_m_tellIs_kindIs (d' + 1) τ (24 * o) a2 w = some (1, τ') ∧ fr [fM_kindIs] τ τ' ∧ (∀ i, τ' fM_kindIs 0 i = if i = 24 * o + a then 1 else if i = 24 * o + c then 2 else τ fM_kindIs 0 i) := by
      rcases hm with ⟨m1, m2⟩ | ⟨m1, m2⟩
      · rw [m1, m2] at runM
        rw [if_neg (by decide), e_m_tellIs_kindIs_19, xa, ta] at runM
        rw [if_neg (by by_cases z : σ fW_told (24 + o) a = 0
                       · rw [if_pos z, if_pos q]; decide
                       · rw [if_neg z]; decide), if_neg (by decide), e_m_tellIs_kindIs_37, ck_ok _ (by omega), ck_ok _ (by omega), c5, if_neg hc, ck_ok _ (by omega), if_neg (by decide), e_m_tellIs_kindIs_67, w32_ok (x := 24 * o + c) (by omega), ck_ok _ (by omega)] at runM
        refine ⟨_, by rw [m1, m2]; exact runM, fr_trans (fr_u (by decide)) (fr_u (by decide)), fun i => ?_⟩
        rw [up_at, up_at]
        by_cases z1 : i = 24 * o + c
        · rw [if_pos z1, if_neg (by omega), if_pos z1]
        · rw [if_neg z1, if_neg z1]
      · rw [m1, m2] at runM
        rw [if_pos rfl, e_m_tellIs_kindIs_19, xc, tc, if_pos q] at runM
        rw [if_neg (by by_cases z : σ fW_told (24 + o) a = 0
                       · rw [if_pos z]; decide
                       · rw [if_neg z]; decide), if_pos rfl, e_m_tellIs_kindIs_37, ck_ok _ (by omega), ck_ok _ (by omega), wc.2.2.2.2.2.1, if_neg (by omega), ck_ok _ (by omega), if_pos rfl, e_m_tellIs_kindIs_67, w32_ok (x := 24 * o + a) (by omega), ck_ok _ (by omega)] at runM
        refine ⟨_, by rw [m1, m2]; exact runM, fr_trans (fr_u (by decide)) (fr_u (by decide)), fun i => ?_⟩
        rw [up_at, up_at]
    obtain ⟨τ', k1, k2, k3⟩ := mod
    have y1 : ∀ r, σ' fW_told r a = if r = 24 + o then 1 else σ fW_told r a := by
      intro r; rw [x1]
      by_cases z : r = 24 + o
      · rw [if_pos ⟨z, rfl⟩, if_pos z]
      · rw [if_neg (fun y => z y.1), if_neg z]
    have y2 : ∀ r i, i ≠ a → σ' fW_told r i = σ fW_told r i := by
      intro r i z; rw [x1, if_neg (fun y => z y.2)]
    refine ⟨1, σ', τ', runC, k1, fr_sub f2 (by decide), k2, Or.inl ⟨rfl, f2, ?_⟩⟩
    have rowS : ∀ (F : Nat) (base r : Int), r ≠ 24 + o → rowT σ τ F base r → (∀ i, 0 ≤ i → i < 24 → τ' F 0 (base + i) = τ F 0 (base + i)) → rowT σ' τ' F base r := by
      intro F base r nr h hF i i0 i1
      have w := h i i0 i1
      have t1 : ∀ j, σ' fW_told r j = σ fW_told r j := by intro j; rw [x1, if_neg (fun y => nr y.1)]
      unfold tv at w ⊢
      rw [t1, t1, f2 fW_adjectives (by decide), f2 fW_contraries (by decide), hF i i0 i1]
      exact w
    have rowN : rowT σ' τ' fM_kindIs (24 * o) (24 + o) := by
      intro i i0 i1
      have w := RK o ho.1 ho.2 i i0 i1
      rw [f2 fW_adjectives (by decide), f2 fW_contraries (by decide), k3]
      by_cases z : i = a
      · rw [z, if_pos rfl, y1, if_pos rfl]
        refine ⟨Or.inr rfl, Or.inl ⟨ha.2, by rw [← ec]; exact hc, ?_, Or.inr ?_⟩⟩
        · unfold tv; rw [y1, if_pos rfl, if_neg (by decide)]
        · rw [← ec, y2 _ _ c2]; exact q
      · rw [if_neg (by omega), y2 _ _ z]
        by_cases z2 : i = c
        · rw [z2, if_pos rfl]
          refine ⟨Or.inl q, Or.inl ⟨c1, by rw [c3]; omega, ?_, Or.inl q⟩⟩
          unfold tv
          rw [y2 _ _ c2, if_pos q, f2 fW_contraries (by decide), c3, y1, if_pos rfl, if_neg (by decide)]
        · rw [if_neg (by omega)]
          refine ⟨w.1, ?_⟩
          rcases w.2 with w2 | w2
          · have wi := (A4 i i0 w2.1).2.resolve_left (fun y => w2.2.1 y.1)
            have na : σ fW_contraries 0 i ≠ a := fun y => by
              have := wi.2.2.2.1
              rw [y, ← ec] at this
              exact z2 this.symm
            refine Or.inl ⟨w2.1, w2.2.1, ?_, by rw [y2 _ _ na]; exact w2.2.2.2⟩
            rw [w2.2.2.1]
            unfold tv
            rw [y2 _ _ z, f2 fW_contraries (by decide), y2 _ _ na]
          · exact Or.inr w2
    refine ⟨fun o' a0 a1 => ?_, fun k' a0 a1 => ?_, fun r i z i0 i1 => ?_⟩
    · rw [f2 fW_objects (by decide)] at a1
      refine rowS _ _ _ (by omega) (RO o' a0 a1) (fun i i0 i1 => ?_)
      rw [k2 fM_objectIs (by decide)]
    · rw [f2 fW_kinds (by decide)] at a1
      by_cases z : k' = o
      · rw [z]; exact rowN
      · refine rowS _ _ _ (by omega) (RK k' a0 a1) (fun i i0 i1 => ?_)
        rw [k3, if_neg (by omega), if_neg (by omega)]
    · rw [f2 fW_objects (by decide), f2 fW_kinds (by decide)] at z
      rw [x1, if_neg (by omega)]
      exact RZ r i z i0 i1
  · obtain ⟨σ', o1, o2, o3, o4⟩ := k_otherwise hf ht (d := d) (by omega)
    rw [if_neg q, o1] at runC
    simp only [Option.bind_some] at runC
    rw [z1_ok _ (Or.inl rfl)] at runC
    have a0 : σ fW_told (24 + o) a = 0 := by omega
    refine ⟨0, σ', τ, runC, ?_, fr_sub o2 (by decide), fr_refl _ _, Or.inr ⟨rfl, rfl, o3, o4⟩⟩
    rcases hm with ⟨m1, m2⟩ | ⟨m1, m2⟩
    · rw [m1, m2] at runM ⊢
      rw [if_neg (by decide), e_m_tellIs_kindIs_19, xa, ta, if_pos a0, if_neg q, if_pos rfl] at runM
      exact runM
    · rw [m1, m2] at runM ⊢
      rw [if_pos rfl, e_m_tellIs_kindIs_19, xc, tc, if_neg q, if_pos rfl] at runM
      exact runM

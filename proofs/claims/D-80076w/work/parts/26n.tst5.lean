/-! a test that is good: its step and the model's row -/
def stT (σ0 : ga_S) (ik nk : Int) (now : Bool) (σ τ : ga_S) (s q : Int) : Prop :=
  (τ fM_qNot 0 q = σ fS_not s 0 ∧ (σ fS_not s 0 = 0 ∨ σ fS_not s 0 = 1)) ∧ τ fM_qThing 0 q = mT (σ fS_thing s 0) ∧ thO σ0 ik nk (σ fS_thing s 0) ∧
  ((τ fM_qForm 0 q = 5 ∧ σ fS_not s 0 = 0 ∧ σ fS_what s 0 = 7 ∧ τ fM_qOther 0 q = mT (σ fS_other s 0) ∧ thO σ0 ik nk (σ fS_other s 0) ∧ τ fM_qProperty 0 q = σ fS_which s 0 ∧ 0 ≤ σ fS_which s 0 ∧ σ fS_which s 0 < σ0 fW_relations 0 0) ∨
   (τ fM_qForm 0 q = 4 ∧ σ fS_what s 0 = 2 ∧ τ fM_qWhat 0 q = σ fS_which s 0 ∧ τ fM_qOther 0 q = mT (σ fS_other s 0) ∧ thO σ0 ik nk (σ fS_other s 0)) ∨
   (τ fM_qForm 0 q = 3 ∧ σ fS_what s 0 = 0 ∧ τ fM_qWhat 0 q = σ fS_which s 0 ∧ 0 ≤ σ fS_which s 0 ∧ σ fS_which s 0 < σ0 fW_adjectives 0 0 ∧ fitA σ0 (kdT σ0 ik nk (σ fS_thing s 0)) (σ fS_which s 0) (!now) = true) ∨
   (τ fM_qForm 0 q = 3 ∧ σ fS_what s 0 = 1 ∧ σ fS_not s 0 = 0 ∧ τ fM_qWhat 0 q = 100 + 100 * σ fS_value s 0 + σ fS_which s 0 ∧ (0 ≤ σ fS_which s 0 ∧ σ fS_which s 0 < σ0 fW_properties 0 0) ∧ (0 ≤ σ fS_value s 0 ∧ σ fS_value s 0 < σ0 fW_values 0 0) ∧ own σ0 (kdT σ0 ik nk (σ fS_thing s 0)) (σ fS_which s 0) = true ∧ σ0 fW_valueTypes 0 (σ fS_value s 0) = σ0 fW_propertyTypes 0 (σ fS_which s 0)) ∨
   (((τ fM_qForm 0 q = 1 ∧ σ fS_what s 0 = 5) ∨ (τ fM_qForm 0 q = 2 ∧ σ fS_what s 0 = 6)) ∧ τ fM_qProperty 0 q = σ fS_which s 0 ∧ (0 ≤ σ fS_which s 0 ∧ σ fS_which s 0 < σ0 fW_properties 0 0) ∧ own σ0 (kdT σ0 ik nk (σ fS_thing s 0)) (σ fS_which s 0) = true ∧ σ0 fW_propertyTypes 0 (σ fS_which s 0) = 0 ∧ τ fM_qWhat 0 q = σ fS_value s 0) ∨
   (τ fM_qForm 0 q = 0 ∧ τ fM_qProperty 0 q = σ fS_which s 0 ∧ (0 ≤ σ fS_which s 0 ∧ σ fS_which s 0 < σ0 fW_properties 0 0) ∧ own σ0 (kdT σ0 ik nk (σ fS_thing s 0)) (σ fS_which s 0) = true ∧ τ fM_qWhat 0 q = σ fS_value s 0 ∧
     ((σ fS_what s 0 = 3 ∧ σ0 fW_propertyTypes 0 (σ fS_which s 0) = 0 ∧ 0 ≤ σ fS_value s 0 ∧ σ fS_value s 0 < 1000000) ∨
      (σ fS_what s 0 = 4 ∧ σ0 fW_propertyTypes 0 (σ fS_which s 0) = 1 ∧ τ fM_qLong 0 q = σ fS_length s 0 ∧ 0 ≤ σ fS_length s 0 ∧ 0 ≤ σ fS_value s 0 ∧ σ fS_value s 0 + σ fS_length s 0 ≤ σ0 fT_size 0 0 ∧ ∀ i, 0 ≤ i → i < σ fS_length s 0 → 0 ≤ σ0 fT_bytes 0 (σ fS_value s 0 + i)) ∨
      (σ fS_what s 0 = 1 ∧ (0 ≤ σ fS_value s 0 ∧ σ fS_value s 0 < σ0 fW_values 0 0) ∧ σ0 fW_valueTypes 0 (σ fS_value s 0) = σ0 fW_propertyTypes 0 (σ fS_which s 0)))))
theorem stT_keep {σ0 : ga_S} {ik nk : Int} {now : Bool} {σ σ' τ τ' : ga_S} {s q s' q' : Int} (h : stT σ0 ik nk now σ τ s q) (h1 : sKp s' σ σ') (h2 : qKp q' τ τ') (hs : s ≠ s') (hq : q ≠ q') : stT σ0 ik nk now σ' τ' s q := by
  unfold stT at h ⊢
  rw [h1 fS_not (by decide) s hs, h1 fS_thing (by decide) s hs, h1 fS_what (by decide) s hs, h1 fS_other (by decide) s hs, h1 fS_which (by decide) s hs, h1 fS_value (by decide) s hs, h1 fS_length (by decide) s hs, h2 fM_qNot (by decide) q hq, h2 fM_qThing (by decide) q hq, h2 fM_qForm (by decide) q hq, h2 fM_qOther (by decide) q hq, h2 fM_qProperty (by decide) q hq, h2 fM_qWhat (by decide) q hq, h2 fM_qLong (by decide) q hq]
  exact h
section
variable {σ0 τ0 : ga_S} {f : Int} {N : Nat}
theorem cnC_u (E : E0 σ0 τ0 f N) {a T : Int} (ha : 0 ≤ a ∧ a ≤ N) (h : 1000000 ≤ cnC σ0 a T) : T = 1 := by
  have c2 := cd_r E.2.1 ha (r := 2) (by omega)
  have c3 := cd_r E.2.1 ha (r := 3) (by omega)
  unfold cnC at h
  by_cases z : T = 1
  · exact z
  · rw [if_neg z] at h
    by_cases y : T = 0
    · rw [if_pos y] at h; omega
    · rw [if_neg y] at h; omega
theorem thC_1 (E : E0 σ0 τ0 f N) {ik nk a b : Int} (S : thS σ0 N a b) (h : 1000000 ≤ thC σ0 ik nk a b) : thO σ0 ik nk (thV σ0 ik nk a b) := by
  have c2 := cd_r E.2.1 (thW_t S) (r := 2) (by omega)
  unfold thC at h
  by_cases z : thV σ0 ik nk a b = -1
  · rw [if_pos z] at h; omega
  · exact (thV_r E ik nk a b).resolve_left z
theorem prB_1 (E : E0 σ0 τ0 f N) {ik nk rf rt v : Int} {num : Bool} (hv : v ≠ -1) (h : prB σ0 ik nk rf rt v num = true) : (0 ≤ prN σ0 rf rt ∧ prN σ0 rf rt < σ0 fW_properties 0 0) ∧ own σ0 (kdT σ0 ik nk v) (prN σ0 rf rt) = true ∧ (num = true → σ0 fW_propertyTypes 0 (prN σ0 rf rt) = 0) := by
  have pr := e0_dN E (nmT σ0 rf rt) 5
  have m5 : mxN σ0 5 = σ0 fW_properties 0 0 := rfl
  have ep : dN σ0 (nmT σ0 rf rt) 5 = prN σ0 rf rt := rfl
  rw [ep] at pr
  unfold prB at h
  rw [decide_eq_false hv, Bool.false_or] at h
  simp only [Bool.and_eq_true, decide_eq_true_eq, Bool.or_eq_true, Bool.not_eq_true'] at h
  obtain ⟨⟨h1, h2⟩, h3⟩ := h
  refine ⟨by omega, h2, fun z => ?_⟩
  rcases h3 with h3 | h3
  · rw [z] at h3; cases h3
  · exact h3
theorem po1_1 {l : List Int} (h0 : ∀ p, p ∈ l → 0 ≤ p) (h1 : po1 (-1) l ≠ -1) (h2 : po1 (-1) l ≠ -2) : ∃ p, l = [p] ∧ po1 (-1) l = p := by
  rcases po1_v h0 with h | ⟨p, e, _, e2⟩ | h
  · exact absurd h.2 h1
  · exact ⟨p, e, e2⟩
  · exact absurd h.2 h2
theorem te_stT (E : E0 σ0 τ0 f N) {σ3 σ τ : ga_S} {a b j ik nk s q : Int} {now : Bool} (T : tRw σ3 τ0 f a b j) (kk : σ3 fT_kinds 0 = σ0 fT_kinds 0) (ha : 0 ≤ a) (hab : a ≤ b) (hb : b ≤ N) (hc : 1000000 ≤ teCd σ0 ik nk now σ3 a b) (R : teRow σ0 ik nk σ3 a b s σ) (M : teRoM σ0 ik nk now σ3 a b q τ) : stT σ0 ik nk now σ τ s q := by
  have nB := T.2.1.1
  unfold teCd at hc
  by_cases c4 : σ3 fR_form 0 0 = 4
  · rw [if_pos c4] at hc
    have l1 := cnC_u E (by omega) hc
    obtain ⟨i0, hi⟩ : ∃ i0, syL σ0 ik nk a b (a + 1) = [i0] := List.length_eq_one_iff.mp (by omega)
    have mem : i0 ∈ syL σ0 ik nk a b (a + 1) := by rw [hi]; exact List.mem_singleton.mpr rfl
    unfold syL at mem
    obtain ⟨_, sB⟩ := List.mem_filter.mp mem
    unfold syB at sB
    simp only [Bool.and_eq_true, decide_eq_true_eq] at sB
    obtain ⟨⟨⟨⟨v1, v2⟩, v3⟩, _⟩, _⟩ := sB
    have tA := (isV_r E ik nk a i0).resolve_left v2
    have tB := (isV_r E ik nk (i0 + 1) b).resolve_left v3
    rcases R with ⟨_, r1, r2⟩ | ⟨_, _, R⟩
    · rcases M with ⟨_, m1, m2, m3⟩ | ⟨_, _, M⟩
      · obtain ⟨w1, w2, w3, w4⟩ := r2 i0 hi
        obtain ⟨x1, x2, x3⟩ := m3 i0 hi
        have rl : 0 ≤ rlV σ0 i0 ∧ rlV σ0 i0 < σ0 fW_relations 0 0 := by
          have wb := e0_b E
          have rr : 0 ≤ rV σ0 i0 ∧ rV σ0 i0 < σ0 fW_verbs 0 0 := by
            unfold rV at v1 ⊢
            by_cases c : σ0 fT_kinds 0 i0 = 0
            · rw [if_pos c] at v1 ⊢
              have := e0_dN E (nmT σ0 i0 (i0 + 1)) 12
              have m : mxN σ0 12 = σ0 fW_verbs 0 0 := rfl
              omega
            · rw [if_neg c] at v1; exact absurd rfl v1
          have := wb.2.2.2 _ rr.1 rr.2
          unfold rlV
          omega
        refine ⟨⟨by rw [m2, r1], Or.inl r1⟩, by rw [x1, w2], by rw [w2]; exact tA, Or.inl ⟨m1, r1, w1, by rw [x2, w3], by rw [w3]; exact tB, by rw [x3, w4], by rw [w4]; exact rl.1, by rw [w4]; exact rl.2⟩⟩
      · rcases M with z | z | z | z <;> omega
    · rcases R with z | z | z | z <;> omega
  · rw [if_neg c4] at hc
    obtain ⟨t1, t2, t3, t4, t5, t6, t7, t8, t9, t10⟩ := tRw_0 E T kk ha hb c4
    have h1 : 1000000 ≤ thC σ0 ik nk (σ3 fR_thingFrom 0 0) (σ3 fR_thingTo 0 0) := by omega
    have h2 : 1000000 ≤ teC2 σ0 ik nk now σ3 b := by omega
    have tv : thO σ0 ik nk (teV σ0 ik nk σ3) := thC_1 E t2 h1
    have nv : teV σ0 ik nk σ3 ≠ -1 := by
      intro z
      rw [z] at tv
      unfold thO at tv
      omega
    have R' := R.resolve_left (fun z => c4 z.1)
    have M' := M.resolve_left (fun z => c4 z.1)
    obtain ⟨r1, r2, R'⟩ := R'
    obtain ⟨m1, m2, M'⟩ := M'
    refine ⟨⟨by rw [m1, r1], by rw [r1]; exact nB⟩, by rw [m2, r2], by rw [r2]; exact tv, ?_⟩
    rw [r2, r1]
    unfold teC2 at h2
    by_cases c1 : σ3 fR_form 0 0 = 1
    · rw [if_pos c1] at h2
      obtain ⟨p1, p2, p3, p4, p5⟩ := t4 c1
      have to' := thC_1 E p2 h2
      rcases R' with ⟨_, y1, y2, y3⟩ | z | z | z
      · rcases M' with ⟨_, x1, x2, x3⟩ | z | z | z
        · exact Or.inr (Or.inl ⟨x1, y1, by rw [x2, y2], by rw [x3, y3], by rw [y3]; exact to'⟩)
        all_goals omega
      all_goals omega
    · rw [if_neg c1] at h2
      by_cases c0 : σ3 fR_form 0 0 = 0
      · obtain ⟨p1, p2, p3, p4⟩ := t5 c0
        rw [if_pos c0, if_neg nv] at h2
        have a1 := cnC_u E (frB_t p2) h2
        obtain ⟨nm, enm⟩ : ∃ x, x = teNm σ0 σ3 b := ⟨_, rfl⟩
        obtain ⟨kd, ekd⟩ : ∃ x, x = kdT σ0 ik nk (teV σ0 ik nk σ3) := ⟨_, rfl⟩
        have aL1 := aC_L E nm kd (teNt σ3) (!now)
        rw [← enm, ← ekd] at a1
        have l1 : (aL σ0 nm kd (teNt σ3) (!now)).length = 1 := aL1.1.2.2.mp a1
        obtain ⟨x, hx⟩ := List.length_eq_one_iff.mp l1
        rcases R' with z | ⟨_, R'⟩ | z | z
        · omega
        · rcases M' with z | ⟨_, x1, M'⟩ | z | z
          · omega
          · obtain ⟨y1, y2, y3⟩ := R' nv
            have x2 := M' nv x (by rw [← enm, ← ekd]; exact hx)
            rw [← enm] at y1 y2 y3
            rw [← ekd] at y2 ⊢
            by_cases d3 : dN σ0 nm 3 = -1
            · rw [if_pos d3] at y1 y2
              unfold aC at a1
              rw [if_pos d3] at a1
              unfold aL at hx
              rw [if_pos d3] at hx
              by_cases fv : fvN σ0 nm (teNt σ3) = -1
              · rw [if_pos fv] at a1; omega
              · rw [if_neg fv] at a1 hx
                have n1 : po1 (-1) (plV σ0 kd (fvN σ0 nm (teNt σ3))) ≠ -1 := by
                  intro z; rw [if_pos z] at a1; omega
                have n2 : po1 (-1) (plV σ0 kd (fvN σ0 nm (teNt σ3))) ≠ -2 := by
                  intro z; rw [if_neg n1, if_pos z] at a1; omega
                obtain ⟨p, lp, pp⟩ := po1_1 (l := plV σ0 kd (fvN σ0 nm (teNt σ3))) (fun p hp => (PL_mem hp).1) n1 n2
                have eP : aP σ0 nm kd (teNt σ3) = p := by unfold aP; rw [if_pos ⟨d3, fv⟩]; exact pp
                rw [lp] at hx
                have ex : x = 100 + 100 * fvN σ0 nm (teNt σ3) + p := by
                  have : [100 + 100 * fvN σ0 nm (teNt σ3) + p] = [x] := hx
                  exact (List.cons.inj this).1.symm
                have pm : p ∈ plV σ0 kd (fvN σ0 nm (teNt σ3)) := by rw [lp]; exact List.mem_singleton.mpr rfl
                have pr := PL_mem pm
                have po : own σ0 kd p = true ∧ σ0 fW_propertyTypes 0 p = σ0 fW_valueTypes 0 (fvN σ0 nm (teNt σ3)) := by
                  unfold plV PL at pm
                  have := (List.mem_filter.mp pm).2
                  simp only [Bool.and_eq_true, decide_eq_true_eq] at this
                  exact ⟨this.2, this.1⟩
                have nt : teNt σ3 = false := by
                  cases hn : teNt σ3 with
                  | false => rfl
                  | true => rw [hn] at fv; exact absurd rfl fv
                have iz : σ3 fR_isNot 0 0 = 0 := by rw [b2i_nt nB, nt]; rfl
                have fr4 : 0 ≤ fvN σ0 nm (teNt σ3) ∧ fvN σ0 nm (teNt σ3) < σ0 fW_values 0 0 := by
                  have := e0_dN E nm 4
                  have m4 : mxN σ0 4 = σ0 fW_values 0 0 := rfl
                  unfold fvN at fv ⊢
                  rw [nt] at fv ⊢
                  rw [if_neg (by decide)] at fv ⊢
                  omega
                refine Or.inr (Or.inr (Or.inr (Or.inl ⟨x1, y1, iz, ?_, ?_, ?_, ?_, ?_⟩)))
                · rw [x2, y3, y2, eP, ex]
                · rw [y2, eP]; exact pr
                · rw [y3]; exact fr4
                · rw [y2, eP]; exact po.1
                · rw [y3, y2, eP]; exact po.2.symm
            · rw [if_neg d3] at y1 y2
              unfold aC at a1
              rw [if_neg d3] at a1
              unfold aL at hx
              rw [if_neg d3] at hx
              have ft : fitA σ0 kd (dN σ0 nm 3) (!now) = true := by
                refine Classical.byContradiction fun z => ?_
                rw [if_neg z] at a1; omega
              rw [if_pos ft] at hx
              have ex : x = dN σ0 nm 3 := (List.cons.inj hx).1.symm
              have r3 := e0_dN E nm 3
              have m3 : mxN σ0 3 = σ0 fW_adjectives 0 0 := rfl
              exact Or.inr (Or.inr (Or.inl ⟨x1, y1, by rw [x2, y2, ex], by rw [y2]; omega, by rw [y2]; omega, by rw [y2]; exact ft⟩))
          · omega
          · omega
        · omega
        · omega
      · rw [if_neg c0] at h2
        by_cases c3 : σ3 fR_form 0 0 = 3
        · obtain ⟨p1, p2, p3⟩ := t6 (Or.inr c3)
          obtain ⟨p4, p5, p6, p7, p8⟩ := t8 c3
          have cr := cd_r E.2.1 (frB_t p2) (r := 2) (by omega)
          rw [if_pos c3] at h2
          have pb : tePr σ0 ik nk σ3 true = true := by
            refine Classical.byContradiction fun z => ?_
            rw [if_neg z] at h2; omega
          have pb0 : tePr σ0 ik nk σ3 false = true := by
            unfold tePr prB at pb ⊢
            simp only [Bool.and_eq_true, Bool.not_false, Bool.true_or] at pb ⊢
            exact ⟨pb.1, trivial⟩
          have pq := prB_1 E nv pb
          rcases R' with z | z | ⟨_, y1, y2, y3⟩ | z
          · omega
          · omega
          · rcases M' with z | z | ⟨_, x1, x2, x3⟩ | z
            · omega
            · omega
            · rw [if_pos pb] at y1
              rw [if_pos ⟨nv, pb0⟩] at x2
              refine Or.inr (Or.inr (Or.inr (Or.inr (Or.inl ⟨?_, by rw [x2, y1], by rw [y1]; exact pq.1, by rw [y1]; exact pq.2.1, by rw [y1]; exact pq.2.2 rfl, by rw [x3, y3]⟩))))
              rcases x1 with x1 | x1
              · rw [if_pos x1.1] at y2; exact Or.inl ⟨x1.2, y2⟩
              · rw [if_neg (by rw [x1.1]; decide)] at y2; exact Or.inr ⟨x1.2, y2⟩
            · omega
          · omega
        · have c2 : σ3 fR_form 0 0 = 2 := by omega
          obtain ⟨p1, p2, p3⟩ := t6 (Or.inl c2)
          obtain ⟨p4, p5, p6, p7, p8, p9⟩ := t7 c2
          have cr := cd_r E.2.1 (frB_t p2) (r := 2) (by omega)
          have cr2 := cd_r E.2.1 (t := σ3 fR_behindFrom 0 0) (r := 2) (by omega) (by omega)
          rw [if_neg c3] at h2
          have pb : tePr σ0 ik nk σ3 false = true := by
            refine Classical.byContradiction fun z => ?_
            rw [if_neg z] at h2; omega
          rw [if_pos pb] at h2
          have vb : vlB σ0 (σ0 fW_propertyTypes 0 (tePn σ0 σ3)) (σ3 fR_behindFrom 0 0) b = true := by
            refine Classical.byContradiction fun z => ?_
            rw [if_neg z] at h2; omega
          have pq := prB_1 E nv pb
          rcases R' with z | z | z | ⟨_, y1, y2⟩
          · omega
          · omega
          · omega
          · rcases M' with z | z | z | ⟨_, x0, x1, x2⟩
            · omega
            · omega
            · omega
            · rw [if_pos pb] at y1
              rw [if_pos ⟨nv, pb⟩] at x1
              have y2 := y2 pb
              have x2 := x2 ⟨nv, pb⟩
              unfold vlB at vb
              unfold vlRow at y2
              unfold vlRoM at x2
              refine Or.inr (Or.inr (Or.inr (Or.inr (Or.inr ⟨x0, by rw [x1, y1], by rw [y1]; exact pq.1, by rw [y1]; exact pq.2.1, ?_, ?_⟩))))
              · rcases y2 with y2 | y2 | y2
                · rcases x2 with x2 | x2 | x2
                  · rw [x2.2, y2.2.2]
                  · omega
                  · omega
                · rcases x2 with x2 | x2 | x2
                  · omega
                  · rw [x2.2.1, y2.2.2.1]
                  · omega
                · rcases x2 with x2 | x2 | x2
                  · omega
                  · omega
                  · rw [x2.2.2, y2.2.2.2]
              · rw [y1]
                rcases y2 with y2 | y2 | y2
                · have nr := nuT_r E (k := σ3 fR_behindFrom 0 0) (by omega) y2.1
                  rw [if_pos y2.1] at vb
                  exact Or.inl ⟨y2.2.1, of_decide_eq_true vb, by rw [y2.2.2]; exact nr.1, by rw [y2.2.2]; exact nr.2.1⟩
                · have tt := E.2.1.2.1 (σ3 fR_behindFrom 0 0) (by omega) (by omega)
                  have tu := E.2.1.2.2.2.2.2 (σ3 fR_behindFrom 0 0) (by omega) (by omega) y2.1
                  rw [if_neg (by omega), if_pos y2.1] at vb
                  rcases x2 with x2 | x2 | x2
                  · omega
                  · exact Or.inr (Or.inl ⟨y2.2.1, of_decide_eq_true vb, by rw [x2.2.2, y2.2.2.2], by rw [y2.2.2.2]; omega, by rw [y2.2.2.1]; omega, by rw [y2.2.2.1, y2.2.2.2]; omega, fun i i0 i1 => by
                      rw [y2.2.2.2] at i1
                      rw [y2.2.2.1]
                      have := tu.2.2.2 (σ0 fT_places 0 (σ3 fR_behindFrom 0 0) + 1 + i) (by omega) (by omega)
                      omega⟩)
                  · omega
                · have r4 := e0_dN E (nmT σ0 (σ3 fR_behindFrom 0 0) b) 4
                  have m4 : mxN σ0 4 = σ0 fW_values 0 0 := rfl
                  rw [if_neg y2.1, if_neg y2.2.1] at vb
                  simp only [Bool.and_eq_true, decide_eq_true_eq] at vb
                  exact Or.inr (Or.inr ⟨y2.2.2.1, by rw [y2.2.2.2]; omega, by rw [y2.2.2.2]; exact vb.2⟩)
end

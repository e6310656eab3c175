/-! a sentence is checked and done, on both sides: lists of names -/
theorem itO_mk {σ σ1 τ : ga_S} (W : WK σ τ) (C : CG σ σ1) {k w v c : Int} (h1 : rdR w v c) (h2 : adjO σ k false c) : itO σ1 w v c := by
  have a24 := W.2.2.1.2.1
  have p12 := W.2.2.2.2.2.1.2.1
  unfold itO
  rw [C.2.2.2 fW_adjectives (by decide), C.2.2.2 fW_contraries (by decide), C.2.2.2 fW_values (by decide), C.2.2.2 fW_properties (by decide), C.2.2.2 fW_valueTypes (by decide), C.2.2.2 fW_propertyTypes (by decide)]
  rcases h1 with ⟨r1, r2, r3, r4⟩ | ⟨r1, r2, r3, r4, r5⟩
  · rcases h2 with ⟨q1, q2, q3⟩ | ⟨v', p, q1, q2, q3, _⟩
    · left
      unfold fitA at q3
      rw [Bool.and_eq_true, Bool.false_or] at q3
      have z := of_decide_eq_true q3.2
      rw [r2] at z q2
      exact ⟨r1, r2, r3, q2, z⟩
    · omega
  · rcases h2 with ⟨q1, q2, q3⟩ | ⟨v', p, q1, q2, q3, _, q5⟩
    · omega
    · have e1 : v = v' := by omega
      have e2 : w = p := by omega
      right
      rw [e1, e2]
      exact ⟨by omega, q2.1, q2.2, q1, q3.1, q3.2, q5⟩
theorem pcD_mk {σ τ σ1 τ1 : ga_S} {f : Int} {N : Nat} (E : E0 σ τ f N) (C : CG σ σ1) {pl : Bool} {a b : Int} {P : Int × List Int} (hP : P ∈ dsA σ pl false (-1) a b) (r : rdOne σ1 τ1 P) (hd : σ1 fR_isDescribed 0 0 = 1) (hs : τ1 fM_sort 0 0 ≠ 13) : pcD σ1 τ1 := by
  obtain ⟨r1, r2, r3, r4, r5, r6⟩ := r
  have k := dsA_k E hP
  have ok := dsA_ok E hP
  refine Or.inr ⟨by omega, hs, by rw [r1, C.2.2.2 fW_kinds (by decide)]; exact k.1, by rw [r4, r1], P.2.length, fun i => σ1 fR_describedWhich 0 i, fun i => σ1 fR_describedValue 0 i, fun i => P.2.getD i.toNat 0, ⟨by omega, by have := k.2.2; omega, r2, r5, fun i i0 i1 => ⟨rfl, rfl, ?_⟩⟩, fun i i0 i1 => ?_⟩
  · have := r6 i.toNat (by omega)
    rw [show ((i.toNat : Nat) : Int) = i by omega] at this
    exact this
  · have x := r3 i.toNat (by omega)
    rw [show ((i.toNat : Nat) : Int) = i by omega] at x
    refine itO_mk E.2.2.2 C x (ok _ ?_)
    have hl : i.toNat < P.2.length := by omega
    show P.2.getD i.toNat 0 ∈ P.2
    rw [show P.2.getD i.toNat 0 = P.2[i.toNat] by simp [List.getD, hl]]
    exact List.getElem_mem hl
section
variable {σ τ σ1 τ1 σ2 τ2 : ga_S} {f : Int} {N : Nat} {g : Int}
theorem sn_10 (H : snH σ τ f N g) (hs : σ fR_sort 0 0 = 10) (ht : τ fM_sort 0 0 = 10) (hn : ∀ k, 0 ≤ k → k < σ fR_names 0 0 → nn σ τ f k k) (ho : oN σ) (hn1 : 1 ≤ σ fR_names 0 0) (hl : τ fM_listFrom 0 0 = 0 ∧ τ fM_listSize 0 0 = σ fR_names 0 0) (hr : ∀ i, 0 ≤ i → i < σ fR_runs 0 0 → rr σ τ f i (σ fR_names 0 0 + i)) (hb : (σ fR_isValue 0 0 = 1 ∧ τ fM_what 0 0 = -2 ∧ σ fR_runs 0 0 = 0) ∨ (σ fR_isValue 0 0 = 0 ∧ τ fM_what 0 0 = -1 ∧ σ fR_runs 0 0 = 0) ∨ (σ fR_isValue 0 0 = 0 ∧ τ fM_what 0 0 = σ fR_names 0 0 ∧ σ fR_runs 0 0 = 1)) {d : Nat} (hd : 20 ≤ d) : snO σ τ g f d := by
  have hm : τ fM_runs 0 0 ≤ 2600 := by have := H.2.2.2.1; omega
  have hw : (σ fR_sort 0 0 = 10 ∧ σ fR_isValue 0 0 = 1 ∧ τ fM_what 0 0 = -2 ∧ σ fR_runs 0 0 = 0) ∨ ((σ fR_sort 0 0 = 10 → σ fR_isValue 0 0 = 0) ∧ ((τ fM_what 0 0 = -1 ∧ σ fR_runs 0 0 = 0) ∨ (0 ≤ τ fM_what 0 0 ∧ σ fR_runs 0 0 = 1 ∧ rr σ τ f 0 (τ fM_what 0 0)))) := by
    rcases hb with z | z | z
    · exact Or.inl ⟨hs, z⟩
    · exact Or.inr ⟨fun _ => z.1, Or.inl z.2⟩
    · refine Or.inr ⟨fun _ => z.1, Or.inr ⟨by omega, z.2.2, ?_⟩⟩
      have := hr 0 (Int.le_refl _) (by omega)
      rw [Int.add_zero, ← z.2.1] at this
      exact this
  refine sn_X H (ck_10 H.1 H.2.2.1 H.2.2.2.1 (Or.inl hs) (by rw [ht, hs]) hn ho hn1 hl hw (d := d) (by omega) f) ?_
  intro σ1 τ1 ⟨C, S, T, E, I, h1, h2⟩ k1 m1 ⟨a1, _, a3⟩
  obtain ⟨d, rfl⟩ : ∃ e, d = e + 2 := ⟨d - 2, by omega⟩
  have en : σ1 fR_nameFrom = σ fR_nameFrom := k1 _ (by decide)
  have em : σ1 fR_nameTo = σ fR_nameTo := k1 _ (by decide)
  have er : σ1 fR_runFrom = σ fR_runFrom := k1 _ (by decide)
  have et : σ1 fR_runTo = σ fR_runTo := k1 _ (by decide)
  have ec : σ1 fR_names = σ fR_names := k1 _ (by decide)
  have eR : nR σ1 = nR σ := by funext i; unfold nR; rw [er, et, cg_nm C]
  have eW : wN σ1 = wN σ := by funext i; unfold wN; rw [en, em, cg_ws C]
  have a1 := a1 hs
  have RN : ∀ k, 0 ≤ k → k < σ1 fR_names 0 0 → RU σ1 τ1 f N k (σ1 fR_nameFrom 0 k) (σ1 fR_nameTo 0 k) ∧ σ1 fR_nameFrom 0 k < σ1 fR_nameTo 0 k := by
    intro k k0 k1'
    rw [ec] at k1'
    rw [en, em]
    exact ⟨RU_S S T (RU_of H.1.1 (hn k k0 k1') hm), (hn k k0 k1').2.2.2.2.1⟩
  have hl1 : τ1 fM_listFrom 0 0 = 0 ∧ τ1 fM_listSize 0 0 = σ1 fR_names 0 0 := by rw [m1 fM_listFrom (by decide), m1 fM_listSize (by decide), ec]; exact hl
  have hs1 : σ1 fR_sort 0 0 = 10 := by rw [k1 _ (by decide)]; exact hs
  have ht1 : τ1 fM_sort 0 0 = 10 := by rw [m1 _ (by decide)]; exact ht
  by_cases iv : σ fR_isValue 0 0 = 0
  · rw [if_pos iv, if_pos iv] at a1
    have hw1 : (τ1 fM_what 0 0 = -1 ∧ σ1 fR_kind0 0 0 = 0) ∨ (0 ≤ τ1 fM_what 0 0 ∧ RU σ1 τ1 f N (τ1 fM_what 0 0) (σ1 fR_runFrom 0 0) (σ1 fR_runTo 0 0) ∧ σ1 fR_kind0 0 0 = dN σ1 (nR σ1 0) 0 ∧ dN σ1 (nR σ1 0) 0 ≠ -1) := by
      rw [m1 fM_what (by decide), cg_d C, eR, er, et]
      rcases hw with w | ⟨_, w | w⟩
      · omega
      · left
        rcases a3 with z | z | z
        · omega
        · rw [if_pos hs] at z; exact ⟨w.1, z.2⟩
        · omega
      · right
        rcases a3 with z | z | z
        · omega
        · omega
        · exact ⟨w.1, RU_S S T (RU_of H.1.1 w.2.2 hm), z.2.1, z.2.2⟩
    obtain ⟨σ2, τ2, x1, x2, x3, x4, x5, x6, x7, x8, x9, x10, x11⟩ := act_10k E I.2.2.1 I.2.1 I.2.2.2.1 hs1 ht1 RN (by rw [ec]; omega) hl1 (by rw [k1 _ (by decide)]; exact iv) hw1 (by rw [ec, cg_nB C, eW, C.2.2.2 fW_kinds (by decide)]; exact a1) (d := d) (by omega) f
    refine ⟨1, σ2, τ2, x1, x2, Or.inr ?_⟩
    refine gd_mk H k1 (by decide) m1 (by decide) x3 (by decide) x4 (by decide) (by rw [x3 _ (by decide)]; exact h1) (by rw [x4 _ (by decide)]; exact h2) (g_same _) ?_
    exact SI_act I x9 x3 (by decide) x4 (by decide) x5 x6 x7 x8 (tv8_f I.2.2.2.2.1 x10 x11) (LT_f I.2.2.2.2.2.2.2.1 (x9.2.2.2.2.1 _ (by decide)) (x3 _ (by decide)) (x4 _ (by decide))) (fun a _ _ => by rw [x4 _ (by decide)]) (fun a z0 z1 => by rw [x3 fW_adjectives (by decide)] at z1; omega) (NW_e (x3 _ (by decide)) (x3 _ (by decide)))
  · rw [if_neg iv, if_neg iv] at a1
    have iv1 : σ fR_isValue 0 0 = 1 ∧ τ fM_what 0 0 = -2 := by
      rcases hb with z | z | z
      · exact ⟨z.1, z.2.1⟩
      · exact absurd z.1 iv
      · exact absurd z.1 iv
    obtain ⟨σ2, τ2, x1, x2, x3, x4, x5, x6, x7, x8, x9, x10, x11⟩ := act_10t E I.2.2.1 I.2.1 I.2.2.2.2.1 hs1 ht1 RN (by rw [ec]; omega) hl1 (by rw [k1 _ (by decide)]; exact iv1.1) (by rw [m1 _ (by decide)]; exact iv1.2) (by rw [ec, cg_nB C, eW, C.2.2.2 fW_types (by decide)]; exact a1) (d := d) (by omega) f
    refine ⟨1, σ2, τ2, x1, x2, Or.inr ?_⟩
    refine gd_mk H k1 (by decide) m1 (by decide) x3 (by decide) x4 (by decide) (by rw [x3 _ (by decide)]; exact h1) (by rw [x4 _ (by decide)]; exact h2) (g_same _) ?_
    have kb : kb0 σ2 τ2 := by
      have k0 := I.2.2.2.1
      unfold kb0 at k0 ⊢
      rw [x3 fW_properties (by decide), x3 fW_propertyKinds (by decide), x9, x10]
      exact k0
    exact SI_act I x11 x3 (by decide) x4 (by decide) x5 x6 x7 kb x8 (LT_f I.2.2.2.2.2.2.2.1 (x11.2.2.2.2.1 _ (by decide)) (x3 _ (by decide)) (x4 _ (by decide))) (fun a _ _ => by rw [x4 _ (by decide)]) (fun a z0 z1 => by rw [x3 fW_adjectives (by decide)] at z1; omega) (NW_e (x3 _ (by decide)) (x3 _ (by decide)))
theorem sn_11 (H : snH σ τ f N g) (hs : σ fR_sort 0 0 = 11) (ht : τ fM_sort 0 0 = 11) (hn : ∀ k, 0 ≤ k → k < σ fR_names 0 0 → nn σ τ f k k) (ho : oN σ) (hn1 : 1 ≤ σ fR_names 0 0) (hl : τ fM_listFrom 0 0 = 0 ∧ τ fM_listSize 0 0 = σ fR_names 0 0) (hr : ∀ i, 0 ≤ i → i < σ fR_runs 0 0 → rr σ τ f i (σ fR_names 0 0 + i)) (hb : (σ fR_runs 0 0 = 0 ∧ τ fM_what 0 0 = -1) ∨ (σ fR_runs 0 0 = 1 ∧ τ fM_what 0 0 = σ fR_names 0 0)) {d : Nat} (hd : 20 ≤ d) : snO σ τ g f d := by
  have hm : τ fM_runs 0 0 ≤ 2600 := by have := H.2.2.2.1; omega
  have hw : (σ fR_sort 0 0 = 10 ∧ σ fR_isValue 0 0 = 1 ∧ τ fM_what 0 0 = -2 ∧ σ fR_runs 0 0 = 0) ∨ ((σ fR_sort 0 0 = 10 → σ fR_isValue 0 0 = 0) ∧ ((τ fM_what 0 0 = -1 ∧ σ fR_runs 0 0 = 0) ∨ (0 ≤ τ fM_what 0 0 ∧ σ fR_runs 0 0 = 1 ∧ rr σ τ f 0 (τ fM_what 0 0)))) := by
    refine Or.inr ⟨fun z => by omega, ?_⟩
    rcases hb with z | z
    · exact Or.inl ⟨z.2, z.1⟩
    · refine Or.inr ⟨by omega, z.1, ?_⟩
      have := hr 0 (Int.le_refl _) (by omega)
      rw [Int.add_zero, ← z.2] at this
      exact this
  refine sn_X H (ck_10 H.1 H.2.2.1 H.2.2.2.1 (Or.inr hs) (by rw [ht, hs]) hn ho hn1 hl hw (d := d) (by omega) f) ?_
  intro σ1 τ1 ⟨C, S, T, E, I, h1, h2⟩ k1 m1 ⟨_, a2, a3⟩
  obtain ⟨d, rfl⟩ : ∃ e, d = e + 1 := ⟨d - 1, by omega⟩
  have en : σ1 fR_nameFrom = σ fR_nameFrom := k1 _ (by decide)
  have em : σ1 fR_nameTo = σ fR_nameTo := k1 _ (by decide)
  have er : σ1 fR_runFrom = σ fR_runFrom := k1 _ (by decide)
  have et : σ1 fR_runTo = σ fR_runTo := k1 _ (by decide)
  have ec : σ1 fR_names = σ fR_names := k1 _ (by decide)
  have eR : nR σ1 = nR σ := by funext i; unfold nR; rw [er, et, cg_nm C]
  have eW : wN σ1 = wN σ := by funext i; unfold wN; rw [en, em, cg_ws C]
  have a1 := a2 hs
  have RN : ∀ k, 0 ≤ k → k < σ1 fR_names 0 0 → RU σ1 τ1 f N k (σ1 fR_nameFrom 0 k) (σ1 fR_nameTo 0 k) ∧ σ1 fR_nameFrom 0 k < σ1 fR_nameTo 0 k := by
    intro k k0 k1'
    rw [ec] at k1'
    rw [en, em]
    exact ⟨RU_S S T (RU_of H.1.1 (hn k k0 k1') hm), (hn k k0 k1').2.2.2.2.1⟩
  have hl1 : τ1 fM_listFrom 0 0 = 0 ∧ τ1 fM_listSize 0 0 = σ1 fR_names 0 0 := by rw [m1 fM_listFrom (by decide), m1 fM_listSize (by decide), ec]; exact hl
  have hw1 : (τ1 fM_what 0 0 = -1 ∧ σ1 fR_kind0 0 0 = -1) ∨ (τ1 fM_what 0 0 ≠ -1 ∧ RU σ1 τ1 f N (τ1 fM_what 0 0) (σ1 fR_runFrom 0 0) (σ1 fR_runTo 0 0) ∧ σ1 fR_kind0 0 0 = dN σ1 (nR σ1 0) 0 ∧ dN σ1 (nR σ1 0) 0 ≠ -1) := by
    rw [m1 fM_what (by decide), cg_d C, eR, er, et]
    rcases hw with w | ⟨_, w | w⟩
    · omega
    · left
      rcases a3 with z | z | z
      · omega
      · rw [if_neg (by omega)] at z; exact ⟨w.1, z.2⟩
      · omega
    · right
      rcases a3 with z | z | z
      · omega
      · omega
      · exact ⟨by omega, RU_S S T (RU_of H.1.1 w.2.2 hm), z.2.1, z.2.2⟩
  obtain ⟨σ2, τ2, x1, x2, x3, x4, x5, x6, x7, x8⟩ := act_11 E I.2.2.1 I.2.1 (by rw [k1 _ (by decide)]; exact hs) (by rw [m1 _ (by decide)]; exact ht) RN (by rw [ec]; omega) hl1 hw1 (by rw [ec, cg_nB C, eW, C.2.2.2 fW_actions (by decide)]; exact a1) (d := d) (by omega) f
  refine ⟨1, σ2, τ2, x1, x2, Or.inr ?_⟩
  refine gd_mk H k1 (by decide) m1 (by decide) x3 (by decide) x4 (by decide) (by rw [x3 _ (by decide)]; exact h1) (by rw [x4 _ (by decide)]; exact h2) (g_same _) ?_
  exact SI_act I x8 x3 (by decide) x4 (by decide) x5 x6 x7 (kb0_f I.2.2.2.1 (fr_mem x3 (by decide)) (x4 _ (by decide))) (tv8_f I.2.2.2.2.1 (x3 _ (by decide)) (x3 _ (by decide))) (LT_f I.2.2.2.2.2.2.2.1 (x8.2.2.2.2.1 _ (by decide)) (x3 _ (by decide)) (x4 _ (by decide))) (fun a _ _ => by rw [x4 _ (by decide)]) (fun a z0 z1 => by rw [x3 fW_adjectives (by decide)] at z1; omega) (NW_e (x3 _ (by decide)) (x3 _ (by decide)))
theorem sn_14 (H : snH σ τ f N g) (hs : σ fR_sort 0 0 = 14) (ht : τ fM_sort 0 0 = 14) (hn : ∀ k, 0 ≤ k → k < σ fR_names 0 0 → nn σ τ f k k) (hn1 : 1 ≤ σ fR_names 0 0) (hl : τ fM_listFrom 0 0 = 0 ∧ τ fM_listSize 0 0 = σ fR_names 0 0) (r0 : rr σ τ f 0 (τ fM_what 0 0)) (r1 : rr σ τ f 1 (τ fM_placeRun 0 0)) {d : Nat} (hd : 20 ≤ d) : snO σ τ g f d := by
  have hm : τ fM_runs 0 0 ≤ 2600 := by have := H.2.2.2.1; omega
  refine sn_X H (ck_14 H.1 H.2.2.1 H.2.2.2.1 hs ht hn hn1 hl r0 r1 (d := d) (by omega) f) ?_
  intro σ1 τ1 ⟨C, S, T, E, I, h1, h2⟩ k1 m1 ⟨a1, a2, a3, a4, a5, a6⟩
  obtain ⟨d, rfl⟩ : ∃ e, d = e + 2 := ⟨d - 2, by omega⟩
  have en : σ1 fR_nameFrom = σ fR_nameFrom := k1 _ (by decide)
  have em : σ1 fR_nameTo = σ fR_nameTo := k1 _ (by decide)
  have er : σ1 fR_runFrom = σ fR_runFrom := k1 _ (by decide)
  have et : σ1 fR_runTo = σ fR_runTo := k1 _ (by decide)
  have eN : nN σ1 = nN σ := by funext i; unfold nN; rw [en, em, cg_nm C]
  have eR : nR σ1 = nR σ := by funext i; unfold nR; rw [er, et, cg_nm C]
  have eW : wN σ1 = wN σ := by funext i; unfold wN; rw [en, em, cg_ws C]
  have n0 := hn 0 (Int.le_refl _) (by omega)
  have RN := RU_S S T (RU_of H.1.1 n0 hm)
  have R0 := RU_S S T (RU_of H.1.1 r0 hm)
  have R1 := RU_S S T (RU_of H.1.1 r1 hm)
  rw [← en, ← em] at RN
  rw [← er, ← et] at R0 R1
  rw [← m1 fM_what (by decide)] at R0
  rw [← m1 fM_placeRun (by decide)] at R1
  have nr : ∀ nm, ¬ noRm σ nm → dN σ nm 2 ≠ -1 := fun nm z y => z (Or.inl y)
  have rm : ∀ nm, ¬ noRm σ nm → isB (σ fW_parents 0) (σ fW_kindOf 0 (dN σ nm 2)) 1 = true := fun nm z => by
    cases hb : isB (σ fW_parents 0) (σ fW_kindOf 0 (dN σ nm 2)) 1 with
    | true => rfl
    | false => exact absurd (Or.inr hb) z
  obtain ⟨b, σ2, τ2, x1, x2, x3, x4, x5⟩ := act_14 E I.2.2.1 I.2.1 I.2.2.2.1 h1 h2 (by rw [k1 _ (by decide)]; exact hs) (by rw [m1 _ (by decide)]; exact ht) RN (by rw [en, em]; exact n0.2.2.2.2.1) (by rw [m1 _ (by decide)]; exact hl.1) R0 R1 (by rw [cg_d C, eR]; exact a2) (by rw [cg_d C, eR]; exact a3) (by rw [cg_d C, eR]; exact a4) (by rw [cg_d C, eR]; exact nr _ a5) (by
    rw [cg_d C, cg_f C, cg_nB C, eN, eW, C.2.2.2 fW_objects (by decide)]
    rcases a6 with z | z
    · exact Or.inr z
    · exact Or.inl (nr _ z)) (by rw [cg_d C, eR, C.2.2.2 fW_kindOf (by decide), C.2.2.2 fW_parents (by decide)]; exact rm _ a5) (fun y => by
    rw [cg_d C, eN] at y ⊢
    rw [C.2.2.2 fW_kindOf (by decide), C.2.2.2 fW_parents (by decide)]
    rcases a6 with z | z
    · exact absurd (by unfold dN; rw [if_pos (Or.inl z.1)]) y
    · exact rm _ z) (d := d) (by omega) f
  refine ⟨b, σ2, τ2, x1, x2, ?_⟩
  rcases x5 with ⟨_, y1, y2, y3, y4, y5, y6⟩ | y
  · right
    refine gd_mk H k1 (by decide) m1 (by decide) x3 (by decide) x4 (by decide) y1 y2 (g_same _) ?_
    obtain ⟨B1, B2, B3, B4, B5, B6⟩ := y3
    exact SI_act I B1 x3 (by decide) x4 (by decide) B3 B4 B5 B6.1 (tv8_f I.2.2.2.2.1 (x3 _ (by decide)) (x3 _ (by decide))) ⟨y4, Or.inr ⟨y5, y6⟩⟩ (fun a _ _ => by rw [x4 _ (by decide)]) (fun a z0 z1 => by rw [x3 fW_adjectives (by decide)] at z1; omega) B6.2
  · exact Or.inl (bd_mk2 H (AF_bd y.2 (by decide)) k1 (by decide) (by decide) m1 (by decide) x3 (by decide) (by decide) x4 (by decide))
/-- the end of described objects -/
theorem pc_fin (H : snH σ τ f N g) (I : SI σ1 τ1 g) {KL KM : List Nat} (k1 : fr KL σ σ1) (hk1 : sbC KL = true) (hs1 : slF3.all (fun F => !(KL.contains F)) = true) (m1 : fr KM τ τ1) (hk2 : sbM KM = true) {C M : Option (Int × ga_S)} (Z : pcZ σ1 τ1 g C M) : ∃ b σ2 τ2, C = some (b, σ2) ∧ M = some (0, τ2) ∧ (bdO σ τ σ2 τ2 ∨ gdO σ τ σ2 τ2 g) := by
  obtain ⟨b, σ2, τ2, z1, z2, z3⟩ := Z
  refine ⟨b, σ2, τ2, z1, z2, ?_⟩
  rcases z3 with ⟨_, x3, x4, y1, y2, ⟨B1, B2, B3, B4, B5, B6⟩, y4, y5, y6⟩ | ⟨_, why, t, w, y, q1, q2⟩
  · right
    refine gd_mk H k1 hk1 m1 hk2 x3 (by decide) x4 (by decide) y1 y2 (g_same _) ?_
    exact SI_act I B1 x3 (by decide) x4 (by decide) B3 B4 B5 B6.1 (tv8_f I.2.2.2.2.1 (x3 _ (by decide)) (x3 _ (by decide))) ⟨y4, Or.inr ⟨y5, y6⟩⟩ (fun a _ _ => by rw [x4 _ (by decide)]) (fun a z0 z1 => by rw [x3 fW_adjectives (by decide)] at z1; omega) B6.2
  · exact Or.inl (bd_mk2 H (AF_bd y (by omega)) k1 hk1 hs1 m1 hk2 q1 (by decide) (by decide) q2 (by decide))
theorem plR_pc (H : snH σ τ f N g) (S : tkS σ σ1) (T : tkT τ τ1) (C : CG σ σ1) (k1 : fr ksL σ σ1) (m1 : fr ksM τ τ1) (hp : plR σ τ f) (ho : σ1 fR_object0 0 0 = dN σ (nmT σ (σ fR_placeFrom 0 0) (σ fR_placeTo 0 0)) 2) (ho1 : dN σ (nmT σ (σ fR_placeFrom 0 0) (σ fR_placeTo 0 0)) 2 ≠ -1) : pcP σ1 τ1 τ1 f N := by
  have hm : τ fM_runs 0 0 ≤ 2600 := by have := H.2.2.2.1; omega
  obtain ⟨p1, p2, p3, p4⟩ := hp
  refine Or.inr ⟨by rw [k1 _ (by decide)]; exact ⟨p1, p2⟩, by rw [k1 _ (by decide), m1 _ (by decide)]; exact p3, σ fR_placeFrom 0 0, σ fR_placeTo 0 0, ?_, ?_, ?_⟩
  · rw [m1 fM_placeRun (by decide)]
    exact RU_S S T (RU_of H.1.1 p4 hm)
  · rw [cg_d C, cg_nm C]; exact ho
  · rw [cg_d C, cg_nm C]; exact ho1
theorem cg_oA (C : CG σ σ1) (h : obAll σ) (en : σ1 fR_nameFrom = σ fR_nameFrom) (em : σ1 fR_nameTo = σ fR_nameTo) (ec : σ1 fR_names = σ fR_names) : obAll σ1 := by
  intro j j0 j1
  rw [ec] at j1
  rw [cg_obN C, en, em]
  exact h j j0 j1
theorem sn_13 (H : snH σ τ f N g) (hs : σ fR_sort 0 0 = 13) (ht : τ fM_sort 0 0 = 13) (hn : ∀ k, 0 ≤ k → k < σ fR_names 0 0 → nn σ τ f k k) (ho : oN σ) (hn1 : 1 ≤ σ fR_names 0 0) (hl : τ fM_listFrom 0 0 = 0 ∧ τ fM_listSize 0 0 = σ fR_names 0 0) (hp : plR σ τ f) {d : Nat} (hd : 20 ≤ d) : snO σ τ g f d := by
  have hm : τ fM_runs 0 0 ≤ 2600 := by have := H.2.2.2.1; omega
  have hnm : σ fR_names 0 0 ≤ 2500 := by
    have := (hn (σ fR_names 0 0 - 1) (by omega) (by omega)).2.1
    have := H.2.2.2.1
    omega
  refine sn_X H (ck_13 H.1 H.2.2.1 H.2.2.2.1 hs ht hn ho hn1 hl hp (d := d) (by omega) f) ?_
  intro σ1 τ1 ⟨C, S, T, E, I, h1, h2⟩ k1 m1 ⟨a1, a2, a3, a4, a5⟩
  obtain ⟨d, rfl⟩ : ∃ e, d = e + 1 := ⟨d - 1, by omega⟩
  have en : σ1 fR_nameFrom = σ fR_nameFrom := k1 _ (by decide)
  have em : σ1 fR_nameTo = σ fR_nameTo := k1 _ (by decide)
  have ec : σ1 fR_names = σ fR_names := k1 _ (by decide)
  refine pc_fin H I k1 (by decide) (by decide) m1 (by decide) (act_12 E I.2.2.1 I.2.1 I.2.2.2.1 h1 h2 (Or.inr (by rw [k1 _ (by decide)]; exact hs)) (by rw [m1 _ (by decide), k1 _ (by decide), ht, hs]) (plR_pc H S T C k1 m1 hp a2 a3) (Or.inl ⟨a5, by rw [m1 _ (by decide)]; exact ht⟩) (by rw [T fM_story (by decide), C.2.1]; exact H.2.2.2.2.2.2.2.1) (by rw [m1 fM_listFrom (by decide), m1 fM_listSize (by decide), ec]; exact hl) (fun k k0 k1' => ?_) (cg_oA C a1 en em ec) (by rw [ec]; exact ⟨hn1, hnm⟩) (d := d) (by omega) f)
  rw [ec] at k1'
  rw [en, em]
  exact ⟨RU_S S T (RU_of H.1.1 (hn k k0 k1') hm), (hn k k0 k1').2.2.2.2.1⟩
theorem sn_12 (H : snH σ τ f N g) (hs : σ fR_sort 0 0 = 12) (ht : τ fM_sort 0 0 = 12) (hn : ∀ k, 0 ≤ k → k < σ fR_names 0 0 → nn σ τ f k k) (ho : oN σ) (hn1 : 1 ≤ σ fR_names 0 0) (hl : τ fM_listFrom 0 0 = 0 ∧ τ fM_listSize 0 0 = σ fR_names 0 0) (hr : rr σ τ f 0 (τ fM_what 0 0)) (hp : (σ fR_placeSort 0 0 = 0 ∧ τ fM_placeWay 0 0 = 0) ∨ plR σ τ f) {d : Nat} (hd : 20 ≤ d) : snO σ τ g f d := by
  have hm : τ fM_runs 0 0 ≤ 2600 := by have := H.2.2.2.1; omega
  have hnm : σ fR_names 0 0 ≤ 2500 := by
    have := (hn (σ fR_names 0 0 - 1) (by omega) (by omega)).2.1
    have := H.2.2.2.1
    omega
  refine sn_X H (ck_12 H.1 H.2.2.1 H.2.2.2.1 hs ht hn ho hn1 hl hr hp (d := d) (by omega) f) ?_
  intro σ1 τ1 ⟨C, S, T, E, I, h1, h2⟩ k1 m1 ⟨a1, ⟨P, q1, q2⟩, a3, a4⟩
  obtain ⟨d, rfl⟩ : ∃ e, d = e + 1 := ⟨d - 1, by omega⟩
  have en : σ1 fR_nameFrom = σ fR_nameFrom := k1 _ (by decide)
  have em : σ1 fR_nameTo = σ fR_nameTo := k1 _ (by decide)
  have ec : σ1 fR_names = σ fR_names := k1 _ (by decide)
  have pd : pcD σ1 τ1 := pcD_mk H.1 C (by rw [q1]; exact List.mem_singleton.mpr rfl) q2 a3 (by rw [m1 _ (by decide), ht]; decide)
  have pp : pcP σ1 τ1 τ1 f N := by
    rcases hp with z | z
    · exact Or.inl (by rw [k1 _ (by decide), m1 _ (by decide)]; exact z)
    · have z1 := z.1
      have a4 := a4.resolve_left (by omega)
      exact plR_pc H S T C k1 m1 z a4.1 a4.2.1
  refine pc_fin H I k1 (by decide) (by decide) m1 (by decide) (act_12 E I.2.2.1 I.2.1 I.2.2.2.1 h1 h2 (Or.inl (by rw [k1 _ (by decide)]; exact hs)) (by rw [m1 _ (by decide), k1 _ (by decide), ht, hs]) pp pd (by rw [T fM_story (by decide), C.2.1]; exact H.2.2.2.2.2.2.2.1) (by rw [m1 fM_listFrom (by decide), m1 fM_listSize (by decide), ec]; exact hl) (fun k k0 k1' => ?_) (cg_oA C a1 en em ec) (by rw [ec]; exact ⟨hn1, hnm⟩) (d := d) (by omega) f)
  rw [ec] at k1'
  rw [en, em]
  exact ⟨RU_S S T (RU_of H.1.1 (hn k k0 k1') hm), (hn k k0 k1').2.2.2.2.1⟩
end

/-! the act of a verb -/
theorem DT_c {σ σ' ρ ρ' : ga_S} {L : List Int} {s n : Int} (D : DT σ σ' L s n) (h : ∀ F, F ∈ dicL → ρ F = σ F) (h' : ∀ F, F ∈ dicL → ρ' F = σ' F) (hf : fr (dicL ++ spL) ρ ρ') : DT ρ ρ' L s n := by
  obtain ⟨_, d1, d2, d3, d4, d5, d6, d7, d8⟩ := D
  have ee : ∀ k, ent ρ k = ent σ k := by
    intro k; unfold ent; rw [h fD_sizes (by decide), h fD_letters (by decide), h fD_froms (by decide)]
  have ee' : ∀ k, ent ρ' k = ent σ' k := by
    intro k; unfold ent; rw [h' fD_sizes (by decide), h' fD_letters (by decide), h' fD_froms (by decide)]
  refine ⟨hf, (dic_c h').2.2.2 d1, ?_, ?_, fun k k0 hk => ?_, ?_, ?_, ?_, ?_⟩
  · rw [h' fD_count (by decide), h fD_count (by decide)]; exact d2
  · rw [h' fD_used (by decide), h fD_used (by decide)]; exact d3
  · rw [h fD_count (by decide)] at hk
    rw [ee', ee, h' fD_sorts (by decide), h fD_sorts (by decide), h' fD_numbers (by decide), h fD_numbers (by decide), h' fD_sizes (by decide), h fD_sizes (by decide)]
    exact d4 k k0 hk
  · rw [h fD_count (by decide), ee']; exact d5
  · rw [h' fD_sorts (by decide), h fD_count (by decide)]; exact d6
  · rw [h' fD_numbers (by decide), h fD_count (by decide)]; exact d7
  · rw [h' fD_sizes (by decide), h fD_count (by decide)]; exact d8
/-- the plural in s of a run, or a verb with its s, as the model writes it -/
theorem m_tellS {τ : ga_S} (hl : 0 ≤ τ fM_lexes 0 0 ∧ τ fM_lexes 0 0 < 300) {W : List (List Int)} (lg : Int) {a b c s : Int} (n : Int) (hg : lg = 0 ∨ s ≠ 10 → (a = pack (W.getD 0 []) ∧ (1 < W.length → b = pack (W.getD 1 [])) ∧ (2 < W.length → c = pack (W.getD 2 [])))) (h3 : W.length ≤ 3) {d : Nat} (hd : 1 ≤ d) : ∃ τ', c_m_tell d τ s n a b c W.length = some (0, τ') ∧ τ' fM_lexes 0 0 = τ fM_lexes 0 0 + 1 ∧ fr lexL τ τ' ∧ MT τ (ga_up τ' fM_lexLong 0 (τ fM_lexes 0 0) lg) W lg s n := by
  obtain ⟨τ', e1, e2, e3, e4, e5, e6, e7, e8, e9, e10, e11⟩ := m_tellR hl a b c W.length hd s n
  refine ⟨τ', e1, e3, e2, fr_trans e2 (fr_u (by decide)), by rw [up_F (by decide)]; exact e3, fun k k0 hk => ?_, by rw [up_F (by decide)]; exact e5, by rw [up_F (by decide)]; exact e6, by rw [up_F (by decide)]; exact e7, up_eq .., fun q i hi => ?_⟩
  · obtain ⟨o1, o2, o3, o4, o5⟩ := e4 k k0 hk
    rw [up_F (by decide), up_F (by decide), up_F (by decide), up_i (by omega), up_F (by decide)]
    exact ⟨o1, o2, o3, o4, o5⟩
  · obtain ⟨p0, p1, p2⟩ := hg q
    rw [up_F (by decide)]
    have z : i = 0 ∨ i = 1 ∨ i = 2 := by omega
    rcases z with z | z | z
    · subst z
      rw [show 3 * τ fM_lexes 0 0 + ((0 : Nat) : Int) = 3 * τ fM_lexes 0 0 by omega, e9, p0]
    · subst z
      rw [show 3 * τ fM_lexes 0 0 + ((1 : Nat) : Int) = 3 * τ fM_lexes 0 0 + 1 by omega, e10, p1 hi]
    · subst z
      rw [show 3 * τ fM_lexes 0 0 + ((2 : Nat) : Int) = 3 * τ fM_lexes 0 0 + 2 by omega, e11, p2 hi]
section
variable {σ τ : ga_S} {f : Int} {N : Nat}
def a7C : List Nat := [fW_verbs, fW_verbRelations] ++ dicL ++ spL
def a7M : List Nat := [fM_verbs, fM_verbRelation] ++ lexL
theorem act_7 (E : E0 σ τ f N) {g : Int} (D : DW σ τ g) (R5 : RW5 σ τ) (hs : σ fR_sort 0 0 = 7) (ht : τ fM_sort 0 0 = 7) (R0 : RU σ τ f N 0 (σ fR_runFrom 0 0) (σ fR_runTo 0 0)) (R1 : RU σ τ f N 1 (σ fR_runFrom 0 1) (σ fR_runTo 0 1)) (l0 : σ fR_runFrom 0 0 < σ fR_runTo 0 0) (hk : σ fR_kind0 0 0 = dN σ (nR σ 1) 6) (hk1 : dN σ (nR σ 1) 6 ≠ -1) (w0 : vbN σ (σ fR_runFrom 0 0) (σ fR_runTo 0 0) = true) (hA : σ fW_verbs 0 0 < 8) {d : Nat} (hd : 5 ≤ d) (first : Int) : ∃ σ' τ', c_r_act (d + 1) σ = some (1, σ') ∧ c_m_does1 (d + 1) τ first = some (0, τ') ∧ fr a7C σ σ' ∧ fr a7M τ τ' ∧ WK σ' τ' ∧ RW5 σ' τ' ∧ DW σ' τ' g ∧ tkS σ σ' := by
  have E' := E
  obtain ⟨E1, E2, E3, E4⟩ := E
  have ET : ENV σ τ f N ∧ TOK σ τ f N := ⟨E1, E2⟩
  obtain ⟨Wk, Wo, Wa, Wt, Wv, Wp, Wr, Wb, Wc, Wd, Wl⟩ := E4
  obtain ⟨v, ev⟩ : ∃ x, x = σ fW_verbs 0 0 := ⟨_, rfl⟩
  obtain ⟨A, eA⟩ : ∃ x, x = dN σ (nR σ 1) 6 := ⟨_, rfl⟩
  obtain ⟨a, ea⟩ : ∃ x, x = σ fR_runFrom 0 0 := ⟨_, rfl⟩
  obtain ⟨b, eb⟩ : ∃ x, x = σ fR_runTo 0 0 := ⟨_, rfl⟩
  have kA := e0_dN E' (nR σ 1) 6
  have m6 : mxN σ 6 = σ fW_relations 0 0 := rfl
  rw [← eA] at kA hk hk1
  rw [← ea, ← eb] at R0 l0 w0
  have v0 := Wb.1
  have ev' : τ fM_verbs 0 0 = v := by rw [Wb.2.2.1, ev]
  rw [← ev] at v0 hA
  -- the word
  unfold vbN at w0
  have w1 := (Bool.and_eq_true _ _).mp w0
  have w2 := of_decide_eq_true w1.1
  have n0 := nB_1 w1.2
  have hab : b = a + 1 := by omega
  have hb := R0.2.2.2
  have hN := E1.2.1
  have hf0 := E1.1
  have b1 := hb.1
  have b3 := hb.2.2.1
  have tk := E2.2.2.2.1 a hb.1 (by omega) (hb.2.2.2 a (Int.le_refl _) l0)
  have W := wsT_1 (σ := σ) hab
  obtain ⟨w, ew⟩ : ∃ x, x = wT σ 0 a := ⟨_, rfl⟩
  rw [← ew] at tk W
  have nmw : nmT σ a b = w := by unfold nmT; rw [W]; rfl
  rw [W, jn1] at n0
  rw [nmw] at w2
  have sW : wsW [w] := by
    intro x hx
    rw [List.mem_singleton] at hx
    subst hx
    exact ⟨tk.1, tk.2.1, tk.2.2.1⟩
  have lw := tk.2.2.1
  have room := DW_room D
  -- the component
  obtain ⟨σ1, c1, c2, c3⟩ := k_tellA ET (tkS_r σ) E3.1 room.2.2.1 room.2.2.2 hb (by omega) (d := d) (by omega) 7 v
  rw [nmw] at c2 c3
  obtain ⟨σ2, c4, c5, c6⟩ := k_withS c3 (d := d) (by omega)
  -- the stores with the verb counted
  obtain ⟨U, eU⟩ : ∃ x : ga_S → ga_S, x = fun y => ga_up (ga_up y fW_verbs 0 0 (v + 1)) fW_verbRelations 0 v A := ⟨_, rfl⟩
  have fU : ∀ y, fr [fW_verbs, fW_verbRelations] y (U y) := by
    intro y; rw [eU]; exact fr_trans (fr_u (by decide)) (fr_u (by decide))
  have dU : ∀ y F, F ∈ dicL → U y F = y F := fun y => fr_mem (fU y) (by decide)
  have Uf : ∀ x y : ga_S, ∀ L : List Nat, fr L x y → fr L (U x) (U y) := by
    intro x y L h F hF
    have h0 := h F hF
    funext n i
    rw [eU]
    show ga_up (ga_up y fW_verbs 0 0 (v + 1)) fW_verbRelations 0 v A F n i = ga_up (ga_up x fW_verbs 0 0 (v + 1)) fW_verbRelations 0 v A F n i
    unfold ga_up
    rw [h0]
  have Un : ∀ y, (U y) fW_verbs 0 0 = v + 1 := by
    intro y; rw [eU]; show ga_up (ga_up y fW_verbs 0 0 (v + 1)) fW_verbRelations 0 v A fW_verbs 0 0 = _; rw [up_F (by decide), up_eq]
  have Ur : ∀ y i, (U y) fW_verbRelations 0 i = if i = v then A else y fW_verbRelations 0 i := by
    intro y i; rw [eU]; show ga_up (ga_up y fW_verbs 0 0 (v + 1)) fW_verbRelations 0 v A fW_verbRelations 0 i = _; rw [up_at, up_F (by decide)]
  have B0 : cB (U σ) := by
    have Bc := D.2.2.2.2.1
    unfold cB at Bc ⊢
    rw [fU σ fW_kinds (by decide), fU σ fW_objects (by decide), Un, fU σ fW_types (by decide), fU σ fW_values (by decide), fU σ fW_properties (by decide), fU σ fW_adjectives (by decide), fU σ fW_relations (by decide), fU σ fW_actions (by decide)]
    exact ⟨Bc.1, Bc.2.1, Bc.2.2.1, Bc.2.2.2.1, Bc.2.2.2.2.1, Bc.2.2.2.2.2.1, Bc.2.2.2.2.2.2.1, by omega, Bc.2.2.2.2.2.2.2.2⟩
  -- the model
  obtain ⟨τ1, e1⟩ : ∃ x, x = ga_up τ fM_verbRelation 0 v A := ⟨_, rfl⟩
  have f1 : fr [fM_verbRelation] τ τ1 := by rw [e1]; exact fr_u (by decide)
  have D0 : DW (U σ) τ1 g := DW_cm D (dU σ) (fun F hF => by
      by_cases z : F = fW_verbs
      · rw [z, Un, ← ev]; omega
      · rw [fU σ F (by revert z; revert F; decide)]; exact Int.le_refl _) (fr_mem f1 (by decide)) B0
  have lx0 : τ1 fM_lexes 0 0 = τ fM_lexes 0 0 := by rw [f1 _ (by decide)]
  obtain ⟨τ2, g1, g2⟩ := m_tell (τ := τ1) (by omega) (W := [w]) (by simp) (by simp) (a := pack w) (b := 0) (c := 0) rfl (fun z => absurd z (by simp)) (fun z => absurd z (by simp)) (d := d) (by omega) 9 v
  have T1 : DT (U σ) (U σ1) w 7 v := DT_c c2 (dU σ) (dU σ1) (Uf _ _ _ c2.1)
  have new1 : fnd (U σ) w 0 = -1 := by rw [(dic_c (dU σ)).1]; exact n0.2.1
  have nn1 : ∀ s', s' = 7 ∨ s' = 12 → ∀ k, live (U σ) k → (U σ) fD_sorts 0 k = s' → (U σ) fD_numbers 0 k ≠ v := by
    intro s' hs' k l e
    have l' : live σ k := by unfold live at l ⊢; rw [dU σ fD_count (by decide), dU σ fD_sorts (by decide)] at l; exact l
    have x := (Wd k l').1
    rw [dU σ fD_sorts (by decide)] at e
    rw [e] at x
    rw [dU σ fD_numbers (by decide)]
    have x' : σ fD_numbers 0 k < σ fW_verbs 0 0 := by
      rcases hs' with h | h
      · rw [h] at x; exact x
      · rw [h] at x; exact x
    omega
  have mx7 : mxN (U σ) 7 = v + 1 := Un σ
  have i7 : iM 7 v = v := by unfold iM; rw [if_neg (by omega)]
  have i12 : iM 12 v = v := by unfold iM; rw [if_neg (by omega)]
  have D1 : DW (U σ1) τ2 g := DW_tell D0 T1 g2 sW (by simp) (by simp) (Or.inl ⟨rfl, rfl⟩) (by omega) rfl i7.symm (by omega) (by omega) new1 (by omega) (by omega) (nn1 7 (Or.inl rfl)) (fun x x1 x2 x3 => (jn_no13 sW x x1 x2 x3).elim)
  have rm1 := DW_room D1
  rw [dU σ1 fD_count (by decide), dU σ1 fD_used (by decide)] at rm1
  have hL2 : (w ++ [115]).length ≤ 40 := by rw [List.length_append]; simp; omega
  obtain ⟨σ3, c7, c8, c9⟩ := k_tell c6 hL2 (wfD_f c2.2.1 c5 (by decide)) (by rw [c5 fD_count (by decide)]; omega) (by rw [c5 fD_used (by decide)]; omega) (d := d) (by omega) 12 v
  have c10 := DT_pre c5 c8
  have T2 : DT (U σ1) (U σ3) (w ++ [115]) 12 v := DT_c c10 (dU σ1) (dU σ3) (Uf _ _ _ c10.1)
  have fn1 := fnd_tell D0.1 T1 (by omega) new1
  have ne : ¬ w ++ [115] = w := by
    intro z
    have := congrArg List.length z
    rw [List.length_append] at this
    simp at this
  have new2 : fnd (U σ1) (w ++ [115]) 0 = -1 := by
    rw [fn1, if_pos (by rw [(dic_c (dU σ)).1]; exact w2.2), if_neg ne]
  have fw1 : fnd (U σ1) w 0 = (U σ) fD_count 0 0 := by
    rw [fn1, if_pos new1, if_pos rfl]
  have nn2 : ∀ k, live (U σ1) k → (U σ1) fD_sorts 0 k = 12 → (U σ1) fD_numbers 0 k ≠ v := by
    intro k l e
    rcases (DT_live D0.1.1 T1 (by omega) k).mp l with l' | l'
    · have o := T1.2.2.2.2.1 k l'.1 l'.2.1
      rw [o.2.1] at e
      rw [o.2.2.1]
      exact nn1 12 (Or.inr rfl) k l' e
    · rw [l', T1.2.2.2.2.2.2.1] at e
      exact absurd e (by decide)
  have h13 : ∀ x : List (List Int), wsW x → lastL x = 12 → jn x ++ [115] = w ++ [115] → fnd (U σ1) (jn x) 0 ≠ -1 ∧ (U σ1) fD_sorts 0 (fnd (U σ1) (jn x) 0) ≠ 11 := by
    intro x _ _ x3
    have xw : jn x = w := List.append_cancel_right x3
    rw [xw, fw1, T1.2.2.2.2.2.2.1]
    have c0 := D0.1.1.1
    exact ⟨by omega, by decide⟩
  have mx12 : mxN (U σ1) 12 = v + 1 := Un σ1
  have pr := pack_lt tk.1
  have p12 := pack_12 tk.1 lw
  have T1t := tkT_f (tkT_r τ) f1 (by decide)
  have T2t := tkT_f T1t g2.1 (by decide)
  have wd2 : τ2 fM_word 0 (f + a) = pack w := by rw [T2t _ (by decide)]; exact tk.2.2.2
  have rf2 : τ2 fM_runFrom 0 0 = f + a := by rw [T2t _ (by decide)]; exact R0.2.1
  -- the second word of the model
  have sec : ∃ lg W2 τ3, (lg = 0 ∨ lg = 1) ∧ (if ga_lcmp (ga_lshr (pack w) 55) 0 = 0 then (0 : Int) else 1) = lg ∧ c_m_tell d τ2 10 v (ga_lor (ga_lshl (pack w) 5) 19) 0 0 1 = some (0, τ3) ∧ τ3 fM_lexes 0 0 = τ2 fM_lexes 0 0 + 1 ∧ fr lexL τ2 τ3 ∧ MT τ2 (ga_up τ3 fM_lexLong 0 (τ2 fM_lexes 0 0) lg) W2 lg 10 v ∧ wsW W2 ∧ W2.length = 1 ∧ lgR W2 lg (w ++ [115]) := by
    by_cases q : w.length ≤ 11
    · have p11' := pack_11 tk.1 q
      obtain ⟨τ3, h1, h2, h3, h4⟩ := m_tellS (τ := τ2) (by omega) (W := [w ++ [115]]) 0 (a := ga_lor (ga_lshl (pack w) 5) 19) (b := 0) (c := 0) (s := 10) v (fun _ => ⟨by rw [lor5 pr.1 (by omega) (by omega) (by omega), ← pack_s]; rfl, fun z => absurd z (by simp), fun z => absurd z (by simp)⟩) (by simp) (d := d) (by omega)
      refine ⟨0, [w ++ [115]], τ3, Or.inl rfl, if_pos ((lshr55 pr.1 p12).mpr p11'), h1, h2, h3, h4, ?_, rfl, Or.inl ⟨rfl, rfl⟩⟩
      intro x hx
      rw [List.mem_singleton] at hx
      subst hx
      refine ⟨fun c hc => ?_, by simp, by rw [List.length_append]; simp; omega⟩
      rcases List.mem_append.mp hc with z | z
      · exact tk.1 c z
      · rw [List.mem_singleton] at z; omega
    · have l12 : w.length = 12 := by omega
      have pg := pack_ge tk.1 tk.2.1
      rw [l12] at pg
      have e11 : (32 : Int) ^ (12 - 1) = 36028797018963968 := by decide
      rw [e11] at pg
      obtain ⟨τ3, h1, h2, h3, h4⟩ := m_tellS (τ := τ2) (by omega) (W := [w]) 1 (a := ga_lor (ga_lshl (pack w) 5) 19) (b := 0) (c := 0) (s := 10) v (fun z => by omega) (by simp) (d := d) (by omega)
      exact ⟨1, [w], τ3, Or.inr rfl, if_neg (fun z => by have := (lshr55 pr.1 p12).mp z; omega), h1, h2, h3, h4, sW, rfl, Or.inr ⟨rfl, l12, rfl⟩⟩
  obtain ⟨lg, W2, τ3, s0, s1, s2, s3, s4, s5, s6, s7, s8⟩ := sec
  obtain ⟨τ4, e4⟩ : ∃ x, x = ga_up τ3 fM_lexLong 0 (τ2 fM_lexes 0 0) lg := ⟨_, rfl⟩
  rw [← e4] at s5
  have D2 : DW (U σ3) τ4 g := DW_tell D1 T2 s5 s6 (by omega) (by omega) s8 hL2 rfl i12.symm (by omega) (by omega) new2 (by omega) (by omega) nn2 h13
  obtain ⟨τ5, e5⟩ : ∃ x, x = ga_up τ4 fM_verbs 0 0 (v + 1) := ⟨_, rfl⟩
  have f5 : fr [fM_verbs] τ4 τ5 := by rw [e5]; exact fr_u (by decide)
  have D5 : DW (U σ3) τ5 g := DW_cm D2 (fun _ _ => rfl) (fun _ _ => Int.le_refl _) (fr_mem f5 (by decide)) D2.2.2.2.2.1
  have f13 : fr (dicL ++ spL) σ σ3 := fr_trans c2.1 c10.1
  have fC : fr a7C σ (U σ3) := fr_trans (fr_sub f13 (by decide)) (fr_sub (fU σ3) (by decide))
  have fM : fr a7M τ τ5 := fr_trans (fr_sub f1 (by decide)) (fr_trans (fr_sub g2.1 (by decide)) (fr_trans (fr_sub s5.1 (by decide)) (fr_sub f5 (by decide))))
  have hC : c_r_act (d + 1) σ = some (1, U σ3) := by
    rw [e_r_act, hs]
    iterate 7 rw [if_neg (by decide)]
    rw [if_pos rfl, ← ea, ← eb, ← ev, c1]
    simp only [Option.bind_some]
    rw [c4]
    simp only [Option.bind_some]
    rw [c5 fW_verbs (by decide), c2.1 fW_verbs (by decide), ← ev, c7]
    simp only [Option.bind_some]
    rw [f13 fW_verbs (by decide), ← ev, ck_ok _ ⟨v0, hA⟩, w32_ok (x := v + 1) (by omega), f13 fR_kind0 (by decide), hk, eU]
  have hM : c_m_does1 (d + 1) τ first = some (0, τ5) := by
    have mr := m_meansA ET (tkT_r τ) E3 R1 (d := d) (by omega) 8
    rw [mN_dN (s := 6) (by omega)] at mr
    have mr' : c_m_meansRun d τ 1 8 = some (A, τ) := by rw [mr, eA]; rfl
    have rf0 : τ fM_runFrom 0 0 = f + a := R0.2.1
    have wd0 : τ fM_word 0 (f + a) = pack w := tk.2.2.2
    have l3 : τ3 fM_word 0 (f + a) = pack w := by rw [s4 _ (by decide)]; exact wd2
    have r3 : τ3 fM_runFrom 0 0 = f + a := by rw [s4 _ (by decide)]; exact rf2
    have v3 : τ3 fM_verbs 0 0 = v := by rw [s4 _ (by decide), g2.1 _ (by decide), f1 _ (by decide)]; exact ev'
    have v2 : τ2 fM_verbs 0 0 = v := by rw [g2.1 _ (by decide), f1 _ (by decide)]; exact ev'
    rw [e_m_does1, ht]
    iterate 7 rw [if_neg (by decide)]
    rw [if_pos rfl, mr']
    simp only [Option.bind_some]
    rw [ev', ck_ok _ ⟨v0, hA⟩, rf0, ck_ok _ (by omega), wd0, ← e1]
    rw [show c_m_tell d τ1 9 v (pack w) 0 0 1 = some (0, τ2) from g1]
    simp only [Option.bind_some]
    rw [rf2, ck_ok _ (by omega), v2, wd2, s2]
    simp only [Option.bind_some]
    rw [r3, ck_ok _ (by omega), l3, if_app (fun z => m_does1_263 d τ3 z (w32 (τ3 fM_lexes 0 0 - 1))), s1, e_m_does1_263, s3, w32_ok (by omega), ck_ok _ (by omega), z1_ok _ s0, v3, w32_ok (x := v + 1) (by omega), show τ2 fM_lexes 0 0 + 1 - 1 = τ2 fM_lexes 0 0 by omega, ← e4, ← e5]
  have yn : τ5 fM_verbs 0 0 = v + 1 := by rw [e5, up_eq]
  have yr : ∀ i, τ5 fM_verbRelation 0 i = if i = v then A else τ fM_verbRelation 0 i := by
    intro i; rw [f5 _ (by decide), s5.1 _ (by decide), g2.1 _ (by decide), e1, up_at]
  have Wb' : WKb (U σ3) τ5 := by
    have un := Un σ3
    refine ⟨by omega, by omega, by omega, fun i z0 z1 => ?_⟩
    rw [fC fW_relations (by decide), Ur, yr, f13 fW_verbRelations (by decide)]
    by_cases q : i = v
    · rw [if_pos q, if_pos q]
      exact ⟨by omega, by omega, rfl⟩
    · rw [if_neg q, if_neg q]
      exact Wb.2.2.2 i z0 (by omega)
  exact ⟨U σ3, τ5, hC, hM, fC, fM, ⟨WKk_f Wk (fr_mem fC (by decide)) (fr_mem fM (by decide)), WKo_f Wo (fr_mem fC (by decide)) (fr_mem fM (by decide)), WKa_f Wa (fr_mem fC (by decide)) (fr_mem fM (by decide)), WKt_f Wt (fr_mem fC (by decide)) (fr_mem fM (by decide)), WKv_f Wv (fr_mem fC (by decide)) (fr_mem fM (by decide)), WKp_f Wp (fr_mem fC (by decide)) (fr_mem fM (by decide)), WKr_f Wr (fr_mem fC (by decide)) (fr_mem fM (by decide)), Wb', WKc_f Wc (fr_mem fC (by decide)) (fr_mem fM (by decide)), D5.2.1, D5.2.2.1⟩, ⟨RWt_f R5.1 (fr_mem fC (by decide)) (fr_mem fM (by decide)), RWh_f R5.2.1 (fr_mem fC (by decide)) (by rw [fC fT_size (by decide), fC fT_bytes (by decide)]; exact ⟨rfl, rfl⟩) (fr_mem fM (by decide)), RWp_f R5.2.2.1 (fr_mem fC (by decide)) (fr_mem fM (by decide)), RWy_f R5.2.2.2.1 (fr_mem fC (by decide)) (fr_mem fM (by decide)), RWe_f R5.2.2.2.2 (fr_mem fC (by decide)) (fr_mem fM (by decide))⟩, D5, tkS_g (tkS_d (tkS_d (tkS_r σ) c2) c10) (fU σ3) (by decide) (GC_g fC (by decide) (cnt_1 fC fW_verbs (by decide) (by rw [Un, ← ev]; omega)) (Or.inl (by decide)) (by decide) (Or.inl (by decide)) (Or.inl (by decide)) (Or.inl (by decide)) (Or.inl (by decide)))⟩
end

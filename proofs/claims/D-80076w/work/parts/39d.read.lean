/-! a story is read, on both sides -/
/-- the relation between two calls -/
def SX (σ τ : ga_S) (g : Int) : Prop := WK σ τ ∧ RW5 σ τ ∧ DW σ τ g ∧ kb0 σ τ ∧ tv8 σ ∧ RL σ τ ∧ CW σ τ ∧ PY σ
def sxC : List Nat := fT_bytes :: fT_size :: (cgL ++ rlC ++ cwL)
def sxN : List Nat := wkM ++ [fM_kindHas] ++ rkM ++ cwM
theorem no_01 {P : Int → Int} {n : Int} (hF : FO P n) (p0 : P 0 = -1) (p1 : P 1 = -1) : ∀ k, -1 ≤ k → k < n → ¬ ((0 : Int) ∈ CH P k ∧ (1 : Int) ∈ CH P k) := by
  refine FO_ind hF ?_ ?_
  · rintro ⟨h, _⟩; rw [CH_neg P (by decide)] at h; cases h
  · rintro k h0 h1 ih ⟨a, b⟩
    rw [CH_s hF h0 h1] at a b
    rcases List.mem_cons.mp a with x | x
    · rcases List.mem_cons.mp b with y | y
      · omega
      · rw [← x, p0, CH_neg P (by decide)] at y; cases y
    · rcases List.mem_cons.mp b with y | y
      · rw [← y, p1, CH_neg P (by decide)] at x; cases x
      · exact ih ⟨x, y⟩
section
variable {σ τ σ1 τ1 : ga_S} {g : Int}
theorem SI_SX (h : SI σ τ g) : SX σ τ g := ⟨h.1, h.2.1, h.2.2.1, h.2.2.2.1, h.2.2.2.2.1, h.2.2.2.2.2.1, h.2.2.2.2.2.2.1, h.2.2.2.2.2.2.2.2⟩
theorem SX_f (h : SX σ τ g) {L M : List Nat} (f1 : fr L σ σ1) (hL : sxC.all (fun F => !(L.contains F)) = true) (f2 : fr M τ τ1) (hM : (sxN ++ qL).all (fun F => !(M.contains F)) = true) : SX σ1 τ1 g := by
  obtain ⟨W, R5, D, kb, t8, rl, cw, ty⟩ := h
  have c : ∀ F, F ∈ sxC → σ1 F = σ F := fun F hF => fr_no f1 hL hF
  have m : ∀ F, F ∈ sxN ++ qL → τ1 F = τ F := fun F hF => fr_no f2 hM hF
  have c0 : ∀ F, F ∈ cgL → σ1 F = σ F := fun F hF => c F (mem_all (L := cgL) (by decide) F hF)
  have m0 : ∀ F, F ∈ wkM → τ1 F = τ F := fun F hF => m F (mem_all (L := wkM) (by decide) F hF)
  have W1 := WK_l W c0 m0
  have D1 := DW_l D c0 m0
  have G : GC σ σ1 := ⟨fun F hF => by rw [c0 F (mem_all (L := cntL) (by decide) F hF)]; exact Int.le_refl _, fun k _ _ => by rw [c0 fW_parents (by decide)], fun o _ _ => Or.inl (by rw [c0 fW_kindOf (by decide)]), fun a _ _ => by rw [c0 fW_adjectiveKinds (by decide), c0 fW_contraries (by decide)]; exact ⟨rfl, rfl⟩, fun v _ _ => by rw [c0 fW_valueTypes (by decide)], fun p _ _ => by rw [c0 fW_propertyTypes (by decide), c0 fW_propertyKinds (by decide)]; exact ⟨rfl, fun _ _ _ z => z⟩, fun a _ _ => by rw [c0 fW_actionKinds (by decide)], by rw [c fT_size (by decide)], by rw [c fT_bytes (by decide)]⟩
  have ea := c0 fW_adjectives (by decide)
  refine ⟨W1, RW5_l R5 c0 ⟨c _ (by decide), c _ (by decide)⟩ m0, D1, kb0_f kb (fun F hF => c0 F (mem_all (L := [fW_properties, fW_kinds, fW_propertyKinds]) (by decide) F hF)) (m _ (by decide)), tv8_f t8 (c0 _ (by decide)) (c0 _ (by decide)), RL_grow rl G (fun nm s _ _ => by rw [(dic_c (dic_l c0)).2.1]) (nmR_D D.1 W.2.2.2.2.2.2.2.2.2.1) (kdR_W W) (kdR_W W1) W.2.2.1 f1 (List.all_eq_true.mpr (fun F hF => List.all_eq_true.mp hL F (mem_all (L := rlC) (by decide) F hF))) f2 (List.all_eq_true.mpr (fun F hF => List.all_eq_true.mp hM F (mem_all (L := rlM) (by decide) F hF))) (fun a _ _ => by rw [m fM_definedTests (by decide)]) (fun a z0 z1 => by rw [ea] at z1; omega), CW_grow cw ⟨G, kdR_W W, kdR_W W1⟩ f1 (List.all_eq_true.mpr (fun F hF => List.all_eq_true.mp hL F (mem_all (L := cwL) (by decide) F hF))) f2 (List.all_eq_true.mpr (fun F hF => List.all_eq_true.mp hM F (mem_all (L := cwM) (by decide) F hF))), PY_eq ty (c0 _ (by decide)) (c0 _ (by decide)) (c0 _ (by decide)) (fun F hF => c0 F (mem_all (L := pyL) (by decide) F hF))⟩
/-- between two calls -/
def AP (σ τ : ga_S) : Prop := AQ σ τ ∧ (∃ g, SX σ τ g) ∧ ORD σ
theorem AP_r (h : AP σ τ) : RU0 σ ∧ RM σ τ := by
  obtain ⟨_, ⟨g, x⟩, _⟩ := h
  exact RU_RL x.1 x.2.2.2.2.2.1
def wbF : List Nat := [fW_kinds, fW_parents, fW_types, fW_typeValues, fW_values, fW_objects, fW_kindOf, fW_placed, fW_placeAt, fW_ways, fW_adjectives, fW_adjectiveKinds, fW_contraries, fW_told, fW_has, fW_properties, fW_propertyTypes, fW_propertyKinds, fW_toldWays, fW_relations, fW_verbs, fW_rules, fW_actions, fW_actionKinds] ++ cwL ++ dicL
theorem WB_f (h : WB σ) {L : List Nat} (f : fr L σ σ1) (hL : wbF.all (fun F => !(L.contains F)) = true) : WB σ1 := by
  have c : ∀ F, F ∈ wbF → σ1 F = σ F := fun F hF => fr_no f hL hF
  have d := DL_f h.2.2.2.2.2.2.2.2.2 f (List.all_eq_true.mpr (fun F hF => List.all_eq_true.mp hL F (mem_all (L := dicL) (by decide) F hF)))
  obtain ⟨h1, h2, h3, h4, h5, h6, h7, h8, h9, _⟩ := h
  refine ⟨?_, ?_, ?_, ?_, ?_, ?_, ?_, ?_, ?_, d⟩
  · rw [c fW_kinds (by decide), c fW_parents (by decide)]; exact h1
  · rw [c fW_types (by decide), c fW_typeValues (by decide), c fW_values (by decide)]; exact h2
  · rw [c fW_objects (by decide), c fW_kindOf (by decide), c fW_placed (by decide), c fW_placeAt (by decide), c fW_ways (by decide)]; exact h3
  · rw [c fW_adjectives (by decide), c fW_adjectiveKinds (by decide), c fW_contraries (by decide)]; exact h4
  · rw [c fW_told (by decide), c fW_has (by decide)]; exact h5
  · rw [c fW_properties (by decide), c fW_propertyTypes (by decide), c fW_propertyKinds (by decide)]; exact h6
  · rw [c fW_toldWays (by decide), c fW_relations (by decide), c fW_verbs (by decide), c fW_rules (by decide)]; exact h7
  · rw [c fW_actions (by decide), c fW_actionKinds (by decide)]; exact h8
  · unfold CR at h9 ⊢
    rw [c fW_commands (by decide), c fW_commandUsed (by decide), c fW_commandActions (by decide), c fW_commandKinds (by decide), c fW_commandSlots (by decide), c fW_commandWords (by decide), c fW_commandSize (by decide), c fW_commandFrom (by decide), c fW_commandLetters (by decide)]; exact h9
/-- the relation of the worlds as at first -/
theorem SX_first (A : WB σ) (B : WBM τ) (S : SLT σ) : SX σ τ 0 := by
  have f1 : fr [fR_latest] σ (ga_up σ fR_latest 0 0 (-1)) := fr_u (by decide)
  have f2 : fr [fR_latest] (ga_up σ fR_latest 0 0 (-1)) σ := fun F hF => (f1 F hF).symm
  have I := SI_first (WB_f A f1 (by decide)) B (SLT_f S (fun F hF => fr_no f1 (M := slF3) (by decide) hF)) (by rw [up_eq])
  exact SX_f (SI_SX I) f2 (by decide) (fr_refl [] τ) (by decide)
/-- objects are elsewhere -/
theorem SX_pl (h : SX σ τ g) (f1 : fr [fW_placed, fW_placeAt] σ σ1) (f2 : fr [fM_way, fM_there] τ τ1) (X : RWp σ1 τ1) : SX σ1 τ1 g := by
  obtain ⟨⟨Wk, Wo, Wa, Wt, Wv, Wp, Wr, Wb, Wc, Wd, Wl⟩, R5, D, kb, t8, rl, cw, ty⟩ := h
  have D1 := DW_sp D f1 (by decide)
  have D' : DW σ1 τ1 g := DW_cm D1 (fun _ _ => rfl) (fun _ _ => Int.le_refl _) (fr_mem f2 (by decide)) D1.2.2.2.2.1
  have W1 : WK σ1 τ1 := ⟨WKk_f Wk (fr_mem f1 (by decide)) (fr_mem f2 (by decide)), WKo_f Wo (fr_mem f1 (by decide)) (fr_mem f2 (by decide)), WKa_f Wa (fr_mem f1 (by decide)) (fr_mem f2 (by decide)), WKt_f Wt (fr_mem f1 (by decide)) (fr_mem f2 (by decide)), WKv_f Wv (fr_mem f1 (by decide)) (fr_mem f2 (by decide)), WKp_f Wp (fr_mem f1 (by decide)) (fr_mem f2 (by decide)), WKr_f Wr (fr_mem f1 (by decide)) (fr_mem f2 (by decide)), WKb_f Wb (fr_mem f1 (by decide)) (fr_mem f2 (by decide)), WKc_f Wc (fr_mem f1 (by decide)) (fr_mem f2 (by decide)), D'.2.1, D'.2.2.1⟩
  have W : WK σ τ := ⟨Wk, Wo, Wa, Wt, Wv, Wp, Wr, Wb, Wc, Wd, Wl⟩
  have S : tkS σ σ1 := tkS_f (tkS_r _) f1 (by decide)
  have G := S.2.2.2.2
  refine ⟨W1, ⟨RWt_f R5.1 (fr_mem f1 (by decide)) (fr_mem f2 (by decide)), RWh_f R5.2.1 (fr_mem f1 (by decide)) (by rw [f1 fT_size (by decide), f1 fT_bytes (by decide)]; exact ⟨rfl, rfl⟩) (fr_mem f2 (by decide)), X, RWy_f R5.2.2.2.1 (fr_mem f1 (by decide)) (fr_mem f2 (by decide)), RWe_f R5.2.2.2.2 (fr_mem f1 (by decide)) (fr_mem f2 (by decide))⟩, D', kb0_f kb (fr_mem f1 (by decide)) (f2 _ (by decide)), tv8_f t8 (f1 _ (by decide)) (f1 _ (by decide)), ?_, CW_grow cw ⟨G, kdR_W W, kdR_W W1⟩ f1 (by decide) f2 (by decide), PY_eq ty (f1 _ (by decide)) (f1 _ (by decide)) (f1 _ (by decide)) (fr_mem f1 (by decide))⟩
  exact RL_grow rl G (DX_GD S.2.2.2.1 D'.1) (nmR_D D.1 Wd) (kdR_W W) (kdR_W W1) Wa f1 (by decide) f2 (by decide) (fun a _ _ => by rw [f2 _ (by decide)]) (fun a z0 z1 => by rw [f1 fW_adjectives (by decide)] at z1; omega)
/-- the player is put into the first room, on both sides -/
theorem rd_room (X : SX σ τ g) (hp : σ fW_placed 0 0 = 0) {d : Nat} (hd : 3 ≤ d) (v : Int) (hv : τ fM_sentences 0 0 = v) : ∃ σ' τ', x_read_91 d σ v 0 = x_read_141 d σ' v ∧ m_read_63 d τ 0 = some (v, τ') ∧ fr [fW_placed, fW_placeAt] σ σ' ∧ fr [fM_way, fM_there] τ τ' ∧ SX σ' τ' g := by
  obtain ⟨W, R5, D, kb, t8, rl, cw, ty⟩ := X
  have XX : SX σ τ g := ⟨W, R5, D, kb, t8, rl, cw, ty⟩
  have Wk := W.1
  have Wo := W.2.1
  have fo := Wk.1
  have o24 := Wo.2.1
  have o1 := Wo.1
  have Rp := R5.2.2.1
  have wp := Rp.1 0 (Int.le_refl _) (by omega)
  have w0 : τ fM_way 0 0 = 0 := by rw [wp.1]; exact hp
  have lp : ∀ o, 0 ≤ o → ∃ σ' τ', x_read_91 d σ v o = x_read_141 d σ' v ∧ m_read_63 d τ o = some (v, τ') ∧ fr [fW_placed, fW_placeAt] σ σ' ∧ fr [fM_way, fM_there] τ τ' ∧ SX σ' τ' g := by
    refine rg_ind (n := σ fW_objects 0 0) ?_ ?_
    · intro o ho o0
      refine ⟨σ, τ, ?_, ?_, fr_refl _ _, fr_refl _ _, XX⟩
      · rw [e_x_read_91, if_neg (by omega), e_x_read_120, if_neg (by omega)]
      · rw [e_m_read_63, Wo.2.2.1, if_neg (by omega), hv]
    · intro o ho ih o0
      have wo := Wo.2.2.2 o o0 ho
      have kk := s_w_isKind (σ := σ) fo (d := d) (by omega) (o := o) 1 (by omega) (by omega) wo.2.1
      have mk := s_m_isBelow (τ := τ) fo Wk.2.2.2.1 (d := d) (by omega) (k := τ fM_kindOf 0 o) 1 (by rw [wo.2.2]; omega) (by rw [wo.2.2]; exact wo.2.1)
      have rC := e_x_read_91 d σ v o
      rw [if_pos ho, kk, Option.bind_some] at rC
      have rM := e_m_read_63 d τ o
      rw [Wo.2.2.1, if_pos ho, if_pos w0, ck_ok _ (by omega), mk, Option.bind_some, wo.2.2] at rM
      cases q : isB (σ fW_parents 0) (σ fW_kindOf 0 o) 1 with
      | false =>
        rw [q, if_pos b2i_f, w32_ok (by omega)] at rC
        rw [q, if_pos b2i_f, e_m_read_108, w32_ok (by omega)] at rM
        obtain ⟨σ', τ', x1, x2, x3⟩ := ih (by omega)
        exact ⟨σ', τ', rC.trans x1, rM.trans x2, x3⟩
      | true =>
        rw [q, if_neg b2i_n] at rC rM
        obtain ⟨σ', es⟩ : ∃ x, x = ga_up (ga_up σ fW_placed 0 0 1) fW_placeAt 0 0 o := ⟨_, rfl⟩
        obtain ⟨τ', et⟩ : ∃ x, x = ga_up (ga_up τ fM_way 0 0 1) fM_there 0 0 o := ⟨_, rfl⟩
        have f1 : fr [fW_placed, fW_placeAt] σ σ' := by rw [es]; exact fr_trans (fr_u (by decide)) (fr_u (by decide))
        have f2 : fr [fM_way, fM_there] τ τ' := by rw [et]; exact fr_trans (fr_u (by decide)) (fr_u (by decide))
        have pt : c_w_put d σ 0 1 o = some (0, σ') := by
          obtain ⟨e, rfl⟩ : ∃ e, d = e + 1 := ⟨d - 1, by omega⟩
          rw [e_w_put, ck_ok _ (by decide), ck_ok _ (by decide), ← es]
        have f6 : τ' fM_way 0 0 ≠ 0 := by rw [et, up_F (by decide), up_eq]; decide
        -- the room is not in anything
        have nt : isB (σ fW_parents 0) (σ fW_kindOf 0 o) 0 = false := by
          cases z : isB (σ fW_parents 0) (σ fW_kindOf 0 o) 0 with
          | false => rfl
          | true => exact absurd ⟨of_decide_eq_true z, of_decide_eq_true q⟩ (no_01 fo Wk.2.2.2.2.1 Wk.2.2.2.2.2.1 _ (by omega) wo.2.1)
        have on : o ≠ 0 := by
          intro z
          rw [z, ty.2.1.1] at nt
          exact absurd nt (by decide)
        obtain ⟨R, rk, _⟩ := RWp_rk Rp
        have po : σ fW_placeAt 0 o = -1 := by
          rcases (Rp.1 o o0 ho).2.2 with z | z
          · exact z.2.1
          · obtain ⟨_, R', q2⟩ := Rp
            have := (q2 o o0 ho z.1).2
            rw [nt] at this
            exact absurd this (by decide)
        have no : inW (σ fW_placeAt 0) 0 o = false := by rw [inW_s rk o24 o0 ho 0 (by decide), if_neg on, if_pos po]
        have Rp' : RWp σ' τ' := RWp_put Rp o24 (o := 0) (p := o) (s := 1) ⟨Int.le_refl _, by omega⟩ ⟨o0, ho⟩ (by decide) no (f1 _ (by decide)) (fun i => by rw [es, up_F (by decide), up_at]) (fun i => by rw [es, up_at, up_F (by decide)]) (fun i => by rw [et, up_F (by decide), up_at]) (fun i => by rw [et, up_at, up_F (by decide)]) (f1 _ (by decide)) (f1 _ (by decide)) ty.2.1.1
        refine ⟨σ', τ', ?_, ?_, f1, f2, ?_⟩
        · rw [rC]
          show x_read_120 d σ v o = _
          rw [e_x_read_120, if_pos ho, pt, Option.bind_some]
        · rw [rM]
          show m_read_108 d (ga_up (ga_up τ fM_way 0 0 1) fM_there 0 0 o) o = _
          rw [← et, e_m_read_108, e_m_read_63, w32_ok (by omega), f2 fM_objects (by decide), f2 fM_sentences (by decide), hv]
          by_cases c : o + 1 < τ fM_objects 0 0
          · rw [if_pos c, if_neg f6]
          · rw [if_neg c]
        · exact SX_pl XX f1 f2 Rp'
  exact lp 0 (Int.le_refl _)
def xrC : List Nat := clC ++ tkF ++ [fX_taped, fU_outs, fR_inner] ++ bgC ++ orL
def xrM : List Nat := [fM_storySize, fM_story, fM_size] ++ ctL ++ beX ++ bgS
/-- what comes ahead of the story, component -/
theorem rd_C (A : AQ σ τ) (S : SLT σ) {d : Nat} (hd : 8 ≤ d) : ∃ σ2 σ3 σ4, c_w_clear d σ = some (0, σ2) ∧ c_t_take_tape d σ2 0 (σ2 fX_taped 0 0) = some (0, σ3) ∧ c_t_take_tape d σ3 1 (σ3 fX_taped 0 0) = some (0, σ4) ∧ fr (clC ++ tkF) σ σ4 ∧ WB σ4 ∧ SLT σ4 ∧ alR σ σ4 6 ∧ (∀ v, v = 0 ∨ v = 1 → σ4 fT_size v 0 = σ fX_taped 0 0 ∧ σ4 fT_inText v 0 = 0 ∧ σ4 fT_at v 0 = 0 ∧ ∀ i, σ4 fT_bytes v i = if 0 ≤ i ∧ i < σ fX_taped 0 0 then σ fX_tape 0 i else σ fT_bytes 0 i) := by
  obtain ⟨⟨⟨q1, q2, q3, q4⟩, ⟨q5, q6, q7⟩, _⟩, al, _⟩ := A
  obtain ⟨σ2, a1, a2, a3, a4⟩ := k_clear (σ := σ) al (d := d) (by omega)
  have e2 : σ2 fX_taped = σ fX_taped := a2 _ (by decide)
  have t2 : σ2 fX_tape = σ fX_tape := a2 _ (by decide)
  obtain ⟨σ3, b1, b2, b3, b4, b5, b6, b7⟩ := k_take (σ := σ2) (v := 0) (n := σ2 fX_taped 0 0) (by decide) (by rw [e2]; exact q3) (d := d) (by omega)
  have e3 : σ3 fX_taped = σ fX_taped := by rw [b2 _ (by decide)]; exact e2
  have t3 : σ3 fX_tape = σ fX_tape := by rw [b2 _ (by decide)]; exact t2
  obtain ⟨σ4, c1, c2, c3, c4, c5, c6, c7⟩ := k_take (σ := σ3) (v := 1) (n := σ3 fX_taped 0 0) (by decide) (by rw [e3]; exact q3) (d := d) (by omega)
  have f4 : fr tkF σ2 σ4 := fr_trans b2 c2
  have by2 : σ2 fT_bytes = σ fT_bytes := a2 _ (by decide)
  refine ⟨σ2, σ3, σ4, a1, b1, c1, fr_trans (fr_sub a2 (mem_all (by decide))) (fr_sub f4 (mem_all (by decide))), WB_f a4 f4 (by decide), ?_, ⟨by rw [f4 _ (by decide)]; exact a3.1, by rw [f4 _ (by decide)]; exact a3.2⟩, ?_⟩
  · exact SLT_f S (fun F hF => by rw [fr_no f4 (M := slF3) (by decide) hF, fr_no a2 (M := slF3) (by decide) hF])
  · rintro v (rfl | rfl)
    · rw [c3 fT_size 0 (by decide), c3 fT_inText 0 (by decide), c3 fT_at 0 (by decide), c3 fT_bytes 0 (by decide), b4, b5, b6, e2]
      refine ⟨rfl, rfl, rfl, fun i => ?_⟩
      rw [b7, e2, t2, by2]
    · rw [c4, c5, c6, e3]
      refine ⟨rfl, rfl, rfl, fun i => ?_⟩
      rw [c7, e3, t3, b3 fT_bytes 1 (by decide), by2, q6]
/-- what comes ahead of the story, model -/
theorem rd_M (A : AQ σ τ) {d : Nat} (hd : 6 ≤ d) : ∃ M τ2 τ3, (p_cpy_88_89 d (ga_up τ fM_storySize 0 0 (τ fM_size 0 0)) 0 0 (τ fM_size 0 0) = some (0, τ2)) ∧ c_m_cut d (ga_up τ2 fM_size 0 0 0) = some (0, τ3) ∧ fr ([fM_storySize, fM_story, fM_size] ++ ctL) τ τ3 ∧ rTok τ3 M ∧ τ3 fM_storySize 0 0 = σ fX_taped 0 0 ∧ τ3 fM_size 0 0 = 0 ∧ ∀ i, τ3 fM_story 0 i = if 0 ≤ i ∧ i < σ fX_taped 0 0 then σ fX_tape 0 i else σ fT_bytes 0 i := by
  obtain ⟨⟨⟨q1, q2, q3, q4⟩, ⟨q5, q6, q7⟩, _, ⟨q8, _⟩, _⟩, _⟩ := A
  obtain ⟨τ1, e1⟩ : ∃ x, x = ga_up τ fM_storySize 0 0 (τ fM_size 0 0) := ⟨_, rfl⟩
  obtain ⟨τ2, e2⟩ : ∃ x, x = am_copy τ1 fM_tape 0 0 fM_story 0 0 (τ fM_size 0 0) := ⟨_, rfl⟩
  obtain ⟨τ4, e4⟩ : ∃ x, x = ga_up τ2 fM_size 0 0 0 := ⟨_, rfl⟩
  have f1 : fr [fM_storySize] τ τ1 := by rw [e1]; exact fr_u (by decide)
  have f2 : fr [fM_story] τ1 τ2 := by rw [e2]; exact am_copy_fr _ _ _ _ _ _ _ _
  have f4 : fr [fM_size] τ2 τ4 := by rw [e4]; exact fr_u (by decide)
  have F4 : fr [fM_storySize, fM_story, fM_size] τ τ4 := fr_trans (fr_sub f1 (by decide)) (fr_trans (fr_sub f2 (by decide)) (fr_sub f4 (by decide)))
  have sz : τ4 fM_storySize 0 0 = σ fX_taped 0 0 := by rw [f4 _ (by decide), f2 _ (by decide), e1, up_eq, q2]
  obtain ⟨M, τ3, x1, x2, x3⟩ := s_m_cut (τ := τ4) (d := d) (by omega) (by rw [sz]; exact q3.2) (by rw [sz]; exact q3.1) (rKeys_f q8 (F4 _ (by decide)))
  refine ⟨M, τ2, τ3, ?_, by rw [← e4]; exact x1, fr_trans (fr_sub F4 (mem_all (by decide))) (fr_sub x2 (mem_all (by decide))), x3, by rw [x2 _ (by decide)]; exact sz, by rw [x2 _ (by decide), e4, up_eq], fun i => ?_⟩
  · rw [← e1, s_cpy_S (by omega) τ1 (by rw [q2]; exact q3), e2]
  · rw [x2 _ (by decide), f4 _ (by decide), e2, q2]
    by_cases c : 0 ≤ i ∧ i < σ fX_taped 0 0
    · rw [if_pos c, am_copy_at _ _ _ _ _ _ _ _ (by omega), show i - 0 + 0 = i by omega, f1 _ (by decide), q1]
    · rw [if_neg c, am_copy_no _ _ _ _ _ _ _ _ (by omega), f1 _ (by decide), q5]
/-- read() -/
theorem x_read (A : AP σ τ) {d : Nat} (hd : 23 ≤ d) : ∃ v σ' τ', c_x_read (d + 1) σ = some (v, σ') ∧ c_m_read (d + 1) τ = some (v, τ') ∧ fr xrC σ σ' ∧ fr xrM τ τ' ∧ AP σ' τ' ∧ σ' fX_alloc 0 0 ≤ σ fX_alloc 0 0 + 12 := by
  obtain ⟨Q, ⟨g0, X⟩, O⟩ := A
  have SL := X.2.2.2.2.2.1.1
  obtain ⟨σ2, σ3, σ4, a1, a2, a3, a4, a5, a6, a7, a8⟩ := rd_C Q SL (d := d) (by omega)
  obtain ⟨M, τ2, τ3, b1, b2, b3, b4, b5, b6, b7⟩ := rd_M Q (d := d) (by omega)
  obtain ⟨τ5, c1, c2, c3⟩ := m_begin (τ := τ3) (d := d) (by omega)
  obtain ⟨⟨⟨q1, q2, q3, q4⟩, ⟨q5, q6, q7, q8, q9, q10⟩, ⟨q11, q12, q13⟩, ⟨q14, q15⟩, q16⟩, al, dry, flt⟩ := Q
  obtain ⟨σ5, e5⟩ : ∃ x, x = ga_up (ga_up σ4 fX_taped 0 0 0) fU_outs 0 0 0 := ⟨_, rfl⟩
  have f5 : fr [fX_taped, fU_outs] σ4 σ5 := by rw [e5]; exact fr_trans (fr_u (by decide)) (fr_u (by decide))
  have v0 := a8 0 (Or.inl rfl)
  have v1 := a8 1 (Or.inr rfl)
  have bb : σ5 fT_bytes 1 = σ5 fT_bytes 0 := by
    funext i
    rw [f5 _ (by decide), v0.2.2.2, v1.2.2.2]
  have sb : τ5 fM_story 0 = σ5 fT_bytes 0 := by
    funext i
    rw [c2 _ (by decide), b7, f5 _ (by decide), v0.2.2.2]
  have br : byteR σ5 0 := by
    intro i
    rw [f5 _ (by decide), v0.2.2.2]
    by_cases c : 0 ≤ i ∧ i < σ fX_taped 0 0
    · rw [if_pos c]; exact q4 i
    · rw [if_neg c]; exact q7 i
  have z0 : σ5 fT_size 0 0 = σ fX_taped 0 0 := by rw [f5 _ (by decide)]; exact v0.1
  have z1 : σ5 fT_size 1 0 = σ fX_taped 0 0 := by rw [f5 _ (by decide)]; exact v1.1
  have ra : σ5 fT_all = σ fT_all := by rw [f5 _ (by decide), a4 _ (by decide)]
  have Z0 : AQ0 σ5 τ5 := by
    refine ⟨⟨by rw [c2 _ (by decide), b3 _ (by decide), f5 _ (by decide), a4 _ (by decide)]; exact q1, by rw [c2 _ (by decide), b6, e5, up_F (by decide), up_eq], by rw [e5, up_F (by decide), up_eq]; decide, fun i => by rw [f5 _ (by decide), a4 _ (by decide)]; exact q4 i⟩, ⟨sb, bb, br, by rw [c2 _ (by decide), b5, z0], by rw [z0, z1], by rw [z0]; exact q3⟩, ⟨fun k k0 k1 => by rw [ra]; exact q11 k k0 k1, fun k k0 k1 => by rw [ra]; exact q12 k k0 k1, by rw [f5 _ (by decide)]; exact v1.2.1⟩, ⟨rKeys_f q14 (by rw [c2 _ (by decide), b3 _ (by decide)]), by rw [f5 _ (by decide), a4 _ (by decide)]; exact q15⟩, ?_⟩
    have o0 : σ5 fU_outs 0 0 = 0 := by rw [e5, up_eq]
    rw [o0]
    exact ⟨c3.2.2.2.2.2.2.1.2.2.2.2.2.2.2.2.2.2, by decide, fun i x y => by omega⟩
  have dry5 : τ5 fM_isDry 0 0 = 0 := by rw [c2 _ (by decide), b3 _ (by decide)]; exact dry
  have al5 : 0 ≤ σ5 fX_alloc 0 0 := by rw [f5 _ (by decide)]; exact a7.1
  have al6 : σ5 fX_alloc 0 0 = σ fX_alloc 0 0 + 6 := by rw [f5 _ (by decide)]; exact a7.2
  obtain ⟨σ6, e6⟩ : ∃ x, x = ga_up (ga_up (ga_up σ5 fR_inner 0 0 1) fR_fault 0 0 0) fR_latest 0 0 (-1) := ⟨_, rfl⟩
  have f6 : fr [fR_inner, fR_fault, fR_latest] σ5 σ6 := by rw [e6]; exact fr_trans (fr_trans (fr_u (by decide)) (fr_u (by decide))) (fr_u (by decide))
  have f46 : fr [fX_taped, fU_outs, fR_inner, fR_fault, fR_latest] σ4 σ6 := fr_trans (fr_sub f5 (by decide)) (fr_sub f6 (by decide))
  have SL6 : SLT σ6 := SLT_f a6 (fun F hF => fr_no f46 (M := slF3) (by decide) hF)
  have I0 : SI σ6 τ5 0 := SI_first (WB_f a5 f46 (by decide)) c3 SL6 (by rw [e6, up_eq])
  obtain ⟨e, rfl⟩ : ∃ e, d = e + 1 := ⟨d - 1, by omega⟩
  have hIN : IN (ga_up σ5 fR_inner 0 0 1) := by
    unfold IN rAll
    rw [up_eq, up_F (by decide), up_F (by decide), up_F (by decide), up_F (by decide)]
    exact ⟨rfl, Z0.2.2.1.2.1, Z0.2.2.1.2.2, bb, by rw [z0, z1]⟩
  obtain ⟨v, σ7, τ7, s1, s2, s3⟩ := st_story (σ := σ5) (τ := τ5) (M := M) (g := 0) (d := e) (by omega) (rTok_f b4 (fun F hF => fr_no c2 (M := sfL) (by decide) hF)) ⟨sb, Z0.2.1.2.2.2.1, br⟩ ⟨by decide, by rw [z0]; exact q3.2, Z0.2.2.1.1, by rw [f5 _ (by decide), v0.2.2.1]; exact Int.le_refl _, by rw [f5 _ (by decide), v0.2.2.1, f5 _ (by decide), v0.1]; exact q3.1⟩ (by rw [f5 _ (by decide)]; exact v0.2.2.1) (by unfold inT; rw [f5 _ (by decide), v0.2.1]; rfl) hIN Z0.2.2.2.1.1 dry5 (by rw [← e6]; exact I0) (Int.le_refl _)
  rw [← e6] at s3
  obtain ⟨h1, h2, h3, h4, h5⟩ := s3
  have m67 : fr bgS τ5 τ7 := fr_trans (fr_trans (fr_trans (fr_u (mmL (by decide))) (fr_u (mmL (by decide)))) (fr_u (mmL (by decide)))) h2
  have C7 : fr (fR_inner :: bgC) σ5 σ7 := fr_trans (fr_sub f6 (mem_all (by decide))) (fr_sub h1 (fun F hF => List.mem_cons_of_mem _ hF))
  have Q7 : AQ0 σ7 τ7 := AQ0_f Z0 C7 (by decide) m67 (by decide)
  have al7 : 0 ≤ σ7 fX_alloc 0 0 := by rw [C7 _ (by decide)]; exact al5
  have al8 : σ7 fX_alloc 0 0 = σ fX_alloc 0 0 + 6 := by rw [C7 _ (by decide)]; exact al6
  have topC : c_x_read (e + 1 + 1) σ = if v = -1 then (c_w_clear (e + 1) σ7).bind fun q5 => x_read_141 (e + 1) q5.2 v else if σ7 fW_placed 0 0 = 0 then x_read_91 (e + 1) σ7 v 0 else x_read_141 (e + 1) σ7 v := by
    rw [e_x_read, a1, Option.bind_some, a2, Option.bind_some, nn_ok _ (by decide)]
    have a3' : c_t_take_tape (e + 1) σ3 (0 + 1) (σ3 fX_taped 0 0) = some (0, σ4) := a3
    rw [a3', Option.bind_some, ← e5]
    have s1' : c_r_story (e + 1) σ5 (0 + 1) = some (v, σ7) := s1
    rw [s1', Option.bind_some]
  have topM : c_m_read (e + 1 + 1) τ = if τ7 fM_fault 0 0 = 0 then m_read_63 (e + 1) τ7 0 else (c_m_begin (e + 1) τ7).bind fun q5 => some (w32 (-10 - q5.2 fM_faultPlace 0 0), q5.2) := by
    rw [e_m_read, b1, Option.bind_some, b2, Option.bind_some, c1, Option.bind_some, s2, Option.bind_some]
  have fC0 : fr xrC σ σ7 := fr_trans (fr_sub a4 (mem_all (by decide))) (fr_trans (fr_sub f5 (mem_all (by decide))) (fr_sub C7 (mem_all (by decide +kernel))))
  have fM0 : fr xrM τ τ7 := fr_trans (fr_sub b3 (mem_all (by decide))) (fr_trans (fr_sub c2 (mem_all (by decide))) (fr_sub m67 (mem_all (by decide +kernel))))
  -- the end
  have fin : ∀ σ8 τ8 w g, c_x_read (e + 1 + 1) σ = x_read_141 (e + 1) σ8 v → (∀ σ9, fr orL σ8 σ9 → c_m_read (e + 1 + 1) τ = some ((if v = -1 then w32 (-10 - σ9 fR_where 0 0) else v), τ8)) → w = v → fr xrC σ σ8 → fr xrM τ τ8 → SX σ8 τ8 g → AQ0 σ8 τ8 → (0 ≤ σ8 fX_alloc 0 0 ∧ σ8 fX_alloc 0 0 ≤ σ fX_alloc 0 0 + 12) → τ8 fM_isDry 0 0 = 0 → τ8 fM_fault 0 0 = σ8 fR_fault 0 0 → ∃ v σ' τ', c_x_read (e + 1 + 1) σ = some (v, σ') ∧ c_m_read (e + 1 + 1) τ = some (v, τ') ∧ fr xrC σ σ' ∧ fr xrM τ τ' ∧ AP σ' τ' ∧ σ' fX_alloc 0 0 ≤ σ fX_alloc 0 0 + 12 := by
    intro σ8 τ8 w g k1 k2 _ k3 k4 k5 k6 k7 k8 k9
    obtain ⟨σ9, o1, o2, o3⟩ := k_arrange (RU_RL k5.1 k5.2.2.2.2.2.1).1 (d := e + 1) (by omega)
    refine ⟨_, σ9, τ8, ?_, k2 σ9 o2, fr_trans k3 (fr_sub o2 (mem_all (by decide))), k4, ⟨⟨AQ0_f k6 o2 (by decide) (fr_refl [] τ8) (by decide), by rw [o2 _ (by decide)]; exact k7.1, k8, by rw [o2 _ (by decide)]; exact k9⟩, ⟨g, SX_f k5 o2 (by decide) (fr_refl [] τ8) (by decide)⟩, o3⟩, by rw [o2 _ (by decide)]; exact k7.2⟩
    rw [k1, e_x_read_141, o1, Option.bind_some]
    by_cases c : v = -1
    · rw [if_pos c, if_pos c]
    · rw [if_neg c, if_neg c]
  rcases h5 with ⟨x1, x2, x3, x4⟩ | ⟨x1, x2, x3, x4, g, x5⟩
  · obtain ⟨σ8, k1, k2, k3, k4⟩ := k_clear (σ := σ7) al7 (d := e + 1) (by omega)
    obtain ⟨τ8, m1, m2, m3⟩ := m_begin (τ := τ7) (d := e + 1) (by omega)
    have SL8 : SLT σ8 := SLT_f h3 (fun F hF => fr_no k2 (M := slF3) (by decide) hF)
    refine fin σ8 τ8 v 0 ?_ (fun σ9 o => ?_) rfl (fr_trans fC0 (fr_sub k2 (mem_all (by decide)))) (fr_trans fM0 (fr_sub m2 (mem_all (by decide)))) (SX_first k4 m3 SL8) ?_ ⟨k3.1, by have := k3.2; omega⟩ (by rw [m2 _ (by decide)]; exact h4) (by rw [m2 _ (by decide), k2 _ (by decide)]; exact x3)
    · rw [topC, if_pos x2, k1, Option.bind_some]
    · rw [topM, if_neg (by rw [x3]; exact x1), m1, Option.bind_some, if_pos x2, o _ (by decide), k2 fR_where (by decide), ← x4]
      show some (w32 (-10 - τ8 fM_faultPlace 0 0), τ8) = _
      rw [m2 _ (by decide)]
    · -- what is out stays nothing
      have c : ∀ F, F ∈ aqC → σ8 F = σ7 F := fun F hF => fr_no k2 (M := aqC) (by decide) hF
      have mm : ∀ F, F ∈ [fM_tape, fM_size, fM_story, fM_storySize, fM_keyWords, fM_out] → τ8 F = τ7 F := fun F hF => fr_no m2 (M := [fM_tape, fM_size, fM_story, fM_storySize, fM_keyWords, fM_out]) (by decide) hF
      have u := m3.2.2.2.2.2.2.1.2.2.2.2.2.2.2.2.2.2
      have y0 : σ7 fU_outs 0 0 = 0 := by rw [C7 _ (by decide), e5, up_eq]
      obtain ⟨w1, w2, w3, w4, w5⟩ := Q7
      unfold AQ0 byteR rAll rKeys
      unfold byteR at w2
      unfold rAll at w3
      unfold rKeys at w4
      rw [c fX_tape (by decide), c fX_taped (by decide), c fT_bytes (by decide), c fT_size (by decide), c fT_all (by decide), c fT_inText (by decide), c fU_definedWithin (by decide), c fU_outs (by decide), c fU_out (by decide), mm fM_tape (by decide), mm fM_size (by decide), mm fM_story (by decide), mm fM_storySize (by decide), mm fM_keyWords (by decide), mm fM_out (by decide), u, y0]
      exact ⟨w1, w2, w3, w4, rfl, by decide, fun i x y => by omega⟩
  · have nv : v ≠ -1 := by omega
    rw [if_neg nv] at topC
    rw [if_pos x3] at topM
    have X7 := SI_SX x5
    by_cases c : σ7 fW_placed 0 0 = 0
    · rw [if_pos c] at topC
      obtain ⟨σ8, τ8, y1, y2, y3, y4, y5⟩ := rd_room X7 c (d := e + 1) (by omega) v x4
      refine fin σ8 τ8 v g (topC.trans y1) (fun σ9 o => by rw [if_neg nv]; exact topM.trans y2) rfl (fr_trans fC0 (fr_sub y3 (mem_all (by decide)))) (fr_trans fM0 (fr_sub y4 (mem_all (by decide)))) y5 (AQ0_f Q7 y3 (by decide) y4 (by decide)) ⟨by rw [y3 _ (by decide)]; exact al7, by rw [y3 _ (by decide)]; omega⟩ (by rw [y4 _ (by decide)]; exact h4) (by rw [y4 _ (by decide), y3 _ (by decide), x3, x1])
    · rw [if_neg c] at topC
      have wo := X7.1.2.1
      have wp := X7.2.1.2.2.1.1 0 (Int.le_refl _) (by have := wo.1; omega)
      refine fin σ7 τ7 v g topC (fun σ9 o => ?_) rfl fC0 fM0 X7 Q7 ⟨al7, by omega⟩ h4 (by rw [x3, x1])
      rw [topM, if_neg nv, e_m_read_63, wo.2.2.1, if_pos (by have := wo.1; omega), wp.1, if_neg c, x4]
end

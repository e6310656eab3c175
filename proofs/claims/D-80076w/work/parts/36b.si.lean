/-! what holds between sentences -/
def LT (σ τ : ga_S) : Prop := τ fM_described 0 0 = σ fR_latest 0 0 ∧ (σ fR_latest 0 0 = -1 ∨ (0 ≤ σ fR_latest 0 0 ∧ σ fR_latest 0 0 < σ fW_objects 0 0))
/-- the first adjectives and actions -/
def PZ (σ : ga_S) : Prop := σ fW_contraries 0 0 = 1 ∧ σ fW_contraries 0 1 = 0 ∧ σ fW_actionKinds 0 1 = 0 ∧ σ fW_actionKinds 0 2 = 0 ∧ σ fW_actionKinds 0 3 = 0 ∧ σ fW_actionKinds 0 4 = -2
/-- the directions are told -/
def ND (σ : ga_S) : Prop := ∀ i, 0 ≤ i → i < 6 → tld σ 9 i
def pyL : List Nat := nwF ++ [fW_contraries, fW_actionKinds]
/-- the first property is a text's, the player is a thing -/
def PY (σ : ga_S) : Prop := σ fW_propertyTypes 0 0 = 1 ∧ (isB (σ fW_parents 0) (σ fW_kindOf 0 0) 0 = true ∧ PZ σ) ∧ NM σ ∧ ND σ
theorem PY_eq {σ σ1 : ga_S} (h : PY σ) (e1 : σ1 fW_propertyTypes = σ fW_propertyTypes) (e2 : σ1 fW_parents = σ fW_parents) (e3 : σ1 fW_kindOf = σ fW_kindOf) (e4 : ∀ F, F ∈ pyL → σ1 F = σ F) : PY σ1 := by
  unfold PY PZ at h ⊢
  rw [e1, e2, e3, e4 fW_contraries (by decide), e4 fW_actionKinds (by decide)]
  exact ⟨h.1, h.2.1, NM_f h.2.2.1 (fun F hF => e4 F (List.mem_append_left _ hF)), fun i i0 i1 => tld_f (h.2.2.2 i i0 i1) (fun F hF => e4 F (mem_all (L := dicL) (by decide) F hF))⟩
theorem PY_G {σ σ1 τ τ1 : ga_S} (h : PY σ) (G : GC σ σ1) (W : WK σ τ) (W1 : WK σ1 τ1) (D : DX σ σ1) (n : NW σ σ1) : PY σ1 := by
  have p1 := W.2.2.2.2.2.1.1
  have o1 := W.2.1.1
  have k0 := W.2.1.2.2.2 0 (Int.le_refl _) (by omega)
  have o2 : σ fW_objects 0 0 ≤ σ1 fW_objects 0 0 := G.1 _ (by decide)
  have k1 := W1.2.1.2.2.2 0 (Int.le_refl _) (by omega)
  refine ⟨by rw [(G.2.2.2.2.2.1 0 (Int.le_refl _) (by omega)).1]; exact h.1, ⟨?_, ?_⟩, NM_G h.2.2.1 D n, fun i i0 i1 => tld_X (h.2.2.2 i i0 i1) (by decide) D⟩
  · have b : isB (σ1 fW_parents 0) (σ fW_kindOf 0 0) 0 = true := by
      have x := h.2.1.1
      unfold isB at x ⊢
      rw [CH_congr W.1.1 G.2.1 _ (by omega) k0.2.1]
      exact x
    rcases G.2.2.1 0 (Int.le_refl _) (by omega) with c | c
    · rw [c]; exact b
    · exact isB_tr W1.1.1 (by omega) k1.2.1 c b
  · have z := h.2.1.2
    have a2 := W.2.2.1.1
    have c5 := W.2.2.2.2.2.2.2.2.1.1
    have ga := G.2.2.2.1
    have gc := G.2.2.2.2.2.2.1
    exact ⟨by rw [(ga 0 (by decide) (by omega)).2]; exact z.1, by rw [(ga 1 (by decide) (by omega)).2]; exact z.2.1, by rw [gc 1 (by decide) (by omega)]; exact z.2.2.1, by rw [gc 2 (by decide) (by omega)]; exact z.2.2.2.1, by rw [gc 3 (by decide) (by omega)]; exact z.2.2.2.2.1, by rw [gc 4 (by decide) (by omega)]; exact z.2.2.2.2.2⟩
def SI (σ τ : ga_S) (g : Int) : Prop := WK σ τ ∧ RW5 σ τ ∧ DW σ τ g ∧ kb0 σ τ ∧ tv8 σ ∧ RL σ τ ∧ CW σ τ ∧ LT σ τ ∧ PY σ
def rkM : List Nat := [fM_rules, fM_tests, fM_phrases, fM_definedFrom, fM_definedTests, fM_ruleAdjective] ++ ruL9 ++ xL
def siM : List Nat := awM ++ [fM_kindHas, fM_described] ++ rkM ++ cwM
def wkM : List Nat := WKkM ++ WKoM ++ WKaM ++ WKtM ++ WKvM ++ WKpM ++ WKrM ++ WKbM ++ WKcM ++ r5M ++ lexL
def siN : List Nat := wkM ++ [fM_kindHas, fM_described] ++ rkM ++ cwM
section
variable {σ τ σ1 τ1 : ga_S} {g : Int}
theorem wk_aw (m : ∀ F, F ∈ awM → τ1 F = τ F) : ∀ F, F ∈ wkM → τ1 F = τ F := fun F hF => m F (mem_all (L := wkM) (by decide) F hF)
theorem cB_l (c : ∀ F, F ∈ cgL → σ1 F = σ F) (h : cB σ) : cB σ1 := by
  unfold cB at h ⊢
  rw [c fW_kinds (by decide), c fW_objects (by decide), c fW_types (by decide), c fW_values (by decide), c fW_properties (by decide), c fW_adjectives (by decide), c fW_relations (by decide), c fW_verbs (by decide), c fW_actions (by decide)]
  exact h
theorem dic_l (c : ∀ F, F ∈ cgL → σ1 F = σ F) : ∀ F, F ∈ dicL → σ1 F = σ F := fun F hF => c F (List.mem_append_left _ hF)
theorem DW_l (D : DW σ τ g) (c : ∀ F, F ∈ cgL → σ1 F = σ F) (m : ∀ F, F ∈ wkM → τ1 F = τ F) : DW σ1 τ1 g :=
  DW_cm D (dic_l c) (fun F hF => by rw [c F (mem_all (L := cntL) (by decide) F hF)]; exact Int.le_refl _) (fun F hF => m F (mem_all (L := lexL) (by decide) F hF)) (cB_l c D.2.2.2.2.1)
theorem DW_cg (D : DW σ τ g) (C : CG σ σ1) (m : ∀ F, F ∈ awM → τ1 F = τ F) : DW σ1 τ1 g := DW_l D C.2.2.2 (wk_aw m)
theorem WK_l (W : WK σ τ) (c0 : ∀ F, F ∈ cgL → σ1 F = σ F) (m : ∀ F, F ∈ wkM → τ1 F = τ F) : WK σ1 τ1 := by
  obtain ⟨Wk, Wo, Wa, Wt, Wv, Wp, Wr, Wb, Wc, Wd, Wl⟩ := W
  have c : ∀ K : List Nat, K.all (fun F => cgL.contains F) = true → ∀ F, F ∈ K → σ1 F = σ F := fun K hK F hF => c0 F (mem_all hK F hF)
  have m' : ∀ K : List Nat, K.all (fun F => wkM.contains F) = true → ∀ F, F ∈ K → τ1 F = τ F := fun K hK F hF => m F (mem_all hK F hF)
  exact ⟨WKk_f Wk (c _ (by decide)) (m' _ (by decide)), WKo_f Wo (c _ (by decide)) (m' _ (by decide)), WKa_f Wa (c _ (by decide)) (m' _ (by decide)), WKt_f Wt (c _ (by decide)) (m' _ (by decide)), WKv_f Wv (c _ (by decide)) (m' _ (by decide)), WKp_f Wp (c _ (by decide)) (m' _ (by decide)), WKr_f Wr (c _ (by decide)) (m' _ (by decide)), WKb_f Wb (c _ (by decide)) (m' _ (by decide)), WKc_f Wc (c _ (by decide)) (m' _ (by decide)), WKd_up Wd (dic_l c0) (fun F hF => by rw [c0 F (mem_all (L := cntL) (by decide) F hF)]; exact Int.le_refl _), WKl_up Wl (dic_l c0)⟩
theorem WK_cg (W : WK σ τ) (C : CG σ σ1) (m : ∀ F, F ∈ awM → τ1 F = τ F) : WK σ1 τ1 := WK_l W C.2.2.2 (wk_aw m)
theorem RW5_l (h : RW5 σ τ) (c0 : ∀ F, F ∈ cgL → σ1 F = σ F) (hb : σ1 fT_size = σ fT_size ∧ σ1 fT_bytes = σ fT_bytes) (m : ∀ F, F ∈ wkM → τ1 F = τ F) : RW5 σ1 τ1 := by
  have c : ∀ K : List Nat, K.all (fun F => cgL.contains F) = true → ∀ F, F ∈ K → σ1 F = σ F := fun K hK F hF => c0 F (mem_all hK F hF)
  have m' : ∀ K : List Nat, K.all (fun F => wkM.contains F) = true → ∀ F, F ∈ K → τ1 F = τ F := fun K hK F hF => m F (mem_all hK F hF)
  exact ⟨RWt_f h.1 (c _ (by decide)) (m' _ (by decide)), RWh_f h.2.1 (c _ (by decide)) (by rw [hb.1, hb.2]; exact ⟨rfl, rfl⟩) (m' _ (by decide)), RWp_f h.2.2.1 (c _ (by decide)) (m' _ (by decide)), RWy_f h.2.2.2.1 (c _ (by decide)) (m' _ (by decide)), RWe_f h.2.2.2.2 (c _ (by decide)) (m' _ (by decide))⟩
theorem RW5_cg (h : RW5 σ τ) (C : CG σ σ1) (m : ∀ F, F ∈ awM → τ1 F = τ F) : RW5 σ1 τ1 := RW5_l h C.2.2.2 ⟨C.2.2.1, C.2.1⟩ (wk_aw m)
/-- the rules while a sentence of another sort is checked -/
theorem RL_ck (h : RL σ τ) (W : WK σ τ) (R : RD σ τ) (K : KC σ σ1) (m : ∀ F, F ∈ rkM → τ1 F = τ F) (hq : ∀ F, F ∈ qL → ∀ k, k < τ fM_tests 0 0 → τ1 F 0 k = τ F 0 k) : RL σ1 τ1 := by
  obtain ⟨h1, h2, h3, h4, h5, h6⟩ := h
  have C := CG_K K
  have S := cg_tkS C
  have D : GD σ σ1 := fun nm s _ _ => by rw [cg_d C]
  have kd := kdR_W W
  have kd2 : kdR σ1 := by
    unfold kdR at kd ⊢
    rw [C.2.2.2 fW_parents (by decide), C.2.2.2 fW_kinds (by decide), C.2.2.2 fW_objects (by decide), C.2.2.2 fW_kindOf (by decide)]
    exact kd
  have Z : GZ σ σ1 := ⟨S.2.2.2.2, kd, kd2⟩
  have nr := nmR_D R W.2.2.2.2.2.2.2.2.2.1
  have kc : ∀ F, F ∈ [fW_rules, fW_rule, fW_defined, fR_draft] → σ1 F = σ F := fun F hF => K.1 F (mem_no (L := [fW_rules, fW_rule, fW_defined, fR_draft]) (by decide) F hF)
  have k1 := kc fW_rules (by decide)
  have k2 := kc fW_rule (by decide)
  have k3 := kc fW_defined (by decide)
  have mt := m fM_tests (by decide)
  have mp := m fM_phrases (by decide)
  have a24 := W.2.2.1.2.1
  refine ⟨SLT_f h1 (fun F hF => kc F (mem_all (L := [fW_rule, fW_defined, fR_draft]) (by decide) F hF)), by rw [m fM_rules (by decide), k1]; exact h2, by rw [mt, k1, C.2.2.2 fW_adjectives (by decide)]; exact h3, by rw [mp, k1]; exact h4, fun l l0 l1 => ?_, fun a a0 a1 => ?_⟩
  · rw [k1] at l1
    rw [k2]
    obtain ⟨nk', x1, x2⟩ := h5 l l0 l1
    have kr := KC_rows K (SLT_br h1 l0 (by omega : l < 24)) (SLT_rd h1 l0 (by omega))
    have y := ruG_rows x2 (σ' := σ1) (τ' := τ1) kr.1 kr.2 (fun F hF => by rw [m F (mem_all (L := ruL9) (by decide) F hF)]) (fun i _ _ => by rw [m fM_ruleAdjective (by decide)]) hq (fun F hF k _ => by rw [m F (mem_all (L := xL) (by decide) F hF)]) (by rw [mt]; exact Int.le_refl _) (by rw [mp]; exact Int.le_refl _)
    exact ruG_g Z D nr x1 y
  · rw [C.2.2.2 fW_adjectives (by decide)] at a1
    intro e
    rw [C.2.2.2 fW_contraries (by decide)] at e
    have x := h6 a a0 a1 e
    have kr := KC_rows K (SLT_bd h1 a0 (by omega : a < 24)) (SLT_dd h1 a0 (by omega))
    rw [C.2.2.2 fW_adjectiveKinds (by decide), k3, kr.1 fQ_tests (by decide), m fM_definedFrom (by decide), m fM_definedTests (by decide), mt]
    refine ⟨x.1, x.2.1, fun k k0 k1 => ?_⟩
    have wa := (W.2.2.1.2.2.2 a a0 a1).1
    exact stT_g Z (Or.inr ⟨wa.1, wa.2.1⟩) (Or.inl ⟨rfl, rfl⟩) (stT_rows (x.2.2 k k0 k1) (fun F hF => kr.2 F hF _ (by omega) (by omega)) (fun F hF => hq F hF _ (by omega)))
theorem SI_ck (h : SI σ τ g) (K : KC σ σ1) {M : List Nat} (f2 : fr M τ τ1) (hM : siM.all (fun F => !(M.contains F)) = true) (hq : ∀ F, F ∈ qL → ∀ k, k < τ fM_tests 0 0 → τ1 F 0 k = τ F 0 k) : SI σ1 τ1 g := by
  obtain ⟨W, R5, D, kb, t8, rl, cw, lt, ty⟩ := h
  have C := CG_K K
  have S := cg_tkS C
  have mm : ∀ F, F ∈ siM → τ1 F = τ F := fun F hF => fr_no f2 hM hF
  have m : ∀ F, F ∈ awM → τ1 F = τ F := fun F hF => mm F (mem_all (L := awM) (by decide) F hF)
  have W1 := WK_cg W C m
  refine ⟨W1, RW5_cg R5 C m, DW_cg D C m, kb0_f kb (fun F hF => C.2.2.2 F (mem_all (L := [fW_properties, fW_kinds, fW_propertyKinds]) (by decide) F hF)) (mm _ (by decide)), ?_, RL_ck rl W D.1 K (fun F hF => mm F (mem_all (L := rkM) (by decide) F hF)) hq, ?_, ?_, PY_eq ty (C.2.2.2 _ (by decide)) (C.2.2.2 _ (by decide)) (C.2.2.2 _ (by decide)) (fun F hF => C.2.2.2 F (mem_all (L := pyL) (by decide) F hF))⟩
  · unfold tv8 at t8 ⊢
    rw [C.2.2.2 fW_types (by decide), C.2.2.2 fW_typeValues (by decide)]
    exact t8
  · exact CW_grow (τ' := τ1) cw ⟨S.2.2.2.2, kdR_W W, kdR_W W1⟩ K.1 (by decide) (M := M) f2 (List.all_eq_true.mpr (fun F hF => List.all_eq_true.mp hM F (mem_all (by decide) F hF)))
  · unfold LT at lt ⊢
    rw [mm fM_described (by decide), K.1 fR_latest (by decide), C.2.2.2 fW_objects (by decide)]
    exact lt
/-- an act that tells no rule and no command -/
theorem SI_act {g' : Int} (h : SI σ τ g) (S : tkS σ σ1) {L M : List Nat} (f1 : fr L σ σ1) (hL : (rlC ++ cwL).all (fun F => !(L.contains F)) = true) (f2 : fr M τ τ1) (hM : (rlM ++ cwM).all (fun F => !(M.contains F)) = true) (W : WK σ1 τ1) (R5 : RW5 σ1 τ1) (D : DW σ1 τ1 g') (kb : kb0 σ1 τ1) (t8 : tv8 σ1) (lt : LT σ1 τ1) (hd : ∀ a, 0 ≤ a → a < σ fW_adjectives 0 0 → τ1 fM_definedTests 0 a = τ fM_definedTests 0 a) (hn : ∀ a, σ fW_adjectives 0 0 ≤ a → a < σ1 fW_adjectives 0 0 → σ1 fW_contraries 0 a ≠ -1) (hw : NW σ σ1) : SI σ1 τ1 g' := by
  obtain ⟨W0, _, D0, _, _, rl, cw, _, ty⟩ := h
  have G := S.2.2.2.2
  have p1 := W0.2.2.2.2.2.1.1
  rw [List.all_append, Bool.and_eq_true] at hL hM
  refine ⟨W, R5, D, kb, t8, RL_grow rl G (DX_GD S.2.2.2.1 D.1) (nmR_D D0.1 W0.2.2.2.2.2.2.2.2.2.1) (kdR_W W0) (kdR_W W) W0.2.2.1 f1 hL.1 f2 hM.1 hd hn, CW_grow cw ⟨G, kdR_W W0, kdR_W W⟩ f1 hL.2 f2 hM.2, lt, ?_⟩
  exact PY_G ty G W0 W S.2.2.2.1 hw
theorem LT_f (h : LT σ τ) (o : σ fW_objects 0 0 ≤ σ1 fW_objects 0 0) (h1 : σ1 fR_latest = σ fR_latest) (h2 : τ1 fM_described = τ fM_described) : LT σ1 τ1 := by
  unfold LT at h ⊢
  rw [h1, h2]
  refine ⟨h.1, ?_⟩
  rcases h.2 with z | z
  · exact Or.inl z
  · exact Or.inr ⟨z.1, by omega⟩
theorem tv8_f (h : tv8 σ) (h1 : σ1 fW_types = σ fW_types) (h2 : σ1 fW_typeValues = σ fW_typeValues) : tv8 σ1 := by
  unfold tv8 at h ⊢
  rw [h1, h2]
  exact h
/-- nothing of it changes -/
def siC : List Nat := fT_bytes :: fT_size :: fR_latest :: (cgL ++ rlC ++ cwL)
theorem SI_f (h : SI σ τ g) {L M : List Nat} (f1 : fr L σ σ1) (hL : siC.all (fun F => !(L.contains F)) = true) (f2 : fr M τ τ1) (hM : (siN ++ qL).all (fun F => !(M.contains F)) = true) : SI σ1 τ1 g := by
  obtain ⟨W, R5, D, kb, t8, rl, cw, lt, ty⟩ := h
  have c : ∀ F, F ∈ siC → σ1 F = σ F := fun F hF => fr_no f1 hL hF
  have m : ∀ F, F ∈ siN ++ qL → τ1 F = τ F := fun F hF => fr_no f2 hM hF
  have c0 : ∀ F, F ∈ cgL → σ1 F = σ F := fun F hF => c F (mem_all (L := cgL) (by decide) F hF)
  have m0 : ∀ F, F ∈ wkM → τ1 F = τ F := fun F hF => m F (mem_all (L := wkM) (by decide) F hF)
  have W1 := WK_l W c0 m0
  have D1 := DW_l D c0 m0
  have G : GC σ σ1 := ⟨fun F hF => by rw [c0 F (mem_all (L := cntL) (by decide) F hF)]; exact Int.le_refl _, fun k _ _ => by rw [c0 fW_parents (by decide)], fun o _ _ => Or.inl (by rw [c0 fW_kindOf (by decide)]), fun a _ _ => by rw [c0 fW_adjectiveKinds (by decide), c0 fW_contraries (by decide)]; exact ⟨rfl, rfl⟩, fun v _ _ => by rw [c0 fW_valueTypes (by decide)], fun p _ _ => by rw [c0 fW_propertyTypes (by decide), c0 fW_propertyKinds (by decide)]; exact ⟨rfl, fun _ _ _ z => z⟩, fun a _ _ => by rw [c0 fW_actionKinds (by decide)], by rw [c fT_size (by decide)], by rw [c fT_bytes (by decide)]⟩
  have ea := c0 fW_adjectives (by decide)
  refine ⟨W1, RW5_l R5 c0 ⟨c _ (by decide), c _ (by decide)⟩ m0, D1, kb0_f kb (fun F hF => c0 F (mem_all (L := [fW_properties, fW_kinds, fW_propertyKinds]) (by decide) F hF)) (m _ (by decide)), tv8_f t8 (c0 _ (by decide)) (c0 _ (by decide)), RL_grow rl G (fun nm s _ _ => by rw [(dic_c (dic_l c0)).2.1]) (nmR_D D.1 W.2.2.2.2.2.2.2.2.2.1) (kdR_W W) (kdR_W W1) W.2.2.1 f1 (List.all_eq_true.mpr (fun F hF => List.all_eq_true.mp hL F (mem_all (L := rlC) (by decide) F hF))) f2 (List.all_eq_true.mpr (fun F hF => List.all_eq_true.mp hM F (mem_all (L := rlM) (by decide) F hF))) (fun a _ _ => by rw [m fM_definedTests (by decide)]) (fun a z0 z1 => by rw [ea] at z1; omega), CW_grow cw ⟨G, kdR_W W, kdR_W W1⟩ f1 (List.all_eq_true.mpr (fun F hF => List.all_eq_true.mp hL F (mem_all (L := cwL) (by decide) F hF))) f2 (List.all_eq_true.mpr (fun F hF => List.all_eq_true.mp hM F (mem_all (L := cwM) (by decide) F hF))), LT_f lt (by rw [c0 fW_objects (by decide)]; exact Int.le_refl _) (c _ (by decide)) (m _ (by decide)), PY_eq ty (c0 _ (by decide)) (c0 _ (by decide)) (c0 _ (by decide)) (fun F hF => c0 F (mem_all (L := pyL) (by decide) F hF))⟩
end

/-! what a check leaves: the same tokens, words and world -/
def cgL : List Nat := dicL ++ [fW_kinds, fW_parents, fW_types, fW_typeValues, fW_values, fW_valueTypes, fW_objects, fW_kindOf, fW_placed, fW_placeAt, fW_adjectives, fW_adjectiveKinds, fW_contraries, fW_told, fW_properties, fW_propertyTypes, fW_propertyKinds, fW_has, fW_numbers, fW_lengths, fW_ways, fW_toldWays, fW_wayFrom, fW_wayBy, fW_relations, fW_relationA, fW_relationB, fW_oneA, fW_oneB, fW_related, fW_verbs, fW_verbRelations, fW_actions, fW_actionKinds]
def CG (σ σ1 : ga_S) : Prop := (∀ F, F ∈ tk1 → σ1 F 0 = σ F 0) ∧ σ1 fT_bytes = σ fT_bytes ∧ σ1 fT_size = σ fT_size ∧ ∀ F, F ∈ cgL → σ1 F = σ F
theorem CG_K {σ σ1 : ga_S} (K : KC σ σ1) : CG σ σ1 := ⟨K.2.1, K.1 _ (by decide), K.1 _ (by decide), fun F hF => K.1 F (mem_no (L := cgL) (by decide) F hF)⟩
section
variable {σ σ1 : ga_S}
theorem cg_w (C : CG σ σ1) : wT σ1 0 = wT σ 0 := by
  funext k
  unfold wT
  rw [C.2.1, C.1 fT_places (by decide), C.1 fT_lengths (by decide)]
theorem cg_ws (C : CG σ σ1) : wsT σ1 0 = wsT σ 0 := by
  funext a b
  unfold wsT
  rw [cg_w C]
theorem cg_nm (C : CG σ σ1) : nmT σ1 = nmT σ := by
  funext a b
  unfold nmT
  rw [cg_ws C]
theorem cg_dic (C : CG σ σ1) : ∀ F, F ∈ dicL → σ1 F = σ F := fun F hF => C.2.2.2 F (List.mem_append_left _ hF)
theorem cg_d (C : CG σ σ1) : dN σ1 = dN σ := (dic_c (cg_dic C)).2.1
theorem cg_f (C : CG σ σ1) : fnd σ1 = fnd σ := (dic_c (cg_dic C)).1
theorem cg_nB (C : CG σ σ1) : nB σ1 = nB σ := by
  funext W S
  unfold nB
  rw [cg_f C]
theorem cg_kd (C : CG σ σ1) : kdN σ1 = kdN σ := by
  funext nm
  unfold kdN
  rw [cg_d C]
theorem cg_ty (C : CG σ σ1) : tyN σ1 = tyN σ := by
  funext nm
  unfold tyN
  rw [cg_d C]
theorem cg_vb (C : CG σ σ1) : vbN σ1 = vbN σ := by
  funext a b
  unfold vbN
  rw [cg_f C, cg_nm C, cg_nB C, cg_ws C]
theorem cg_own (C : CG σ σ1) : own σ1 = own σ := by
  funext k p
  unfold own
  rw [C.2.2.2 fW_parents (by decide), C.2.2.2 fW_propertyKinds (by decide)]
theorem cg_pl (C : CG σ σ1) : plV σ1 = plV σ := by
  funext k v
  unfold plV PL
  rw [C.2.2.2 fW_properties (by decide), C.2.2.2 fW_propertyTypes (by decide), C.2.2.2 fW_valueTypes (by decide), cg_own C]
theorem cg_fit (C : CG σ σ1) : fitA σ1 = fitA σ := by
  funext k a df
  unfold fitA
  rw [C.2.2.2 fW_parents (by decide), C.2.2.2 fW_adjectiveKinds (by decide), C.2.2.2 fW_contraries (by decide)]
theorem cg_aC (C : CG σ σ1) : aC σ1 = aC σ := by
  funext nm k nv df
  unfold aC fvN
  rw [cg_d C, cg_pl C, cg_fit C]
theorem cg_aL (C : CG σ σ1) : aL σ1 = aL σ := by
  funext nm k nv df
  unfold aL fvN
  rw [cg_d C, cg_pl C, cg_fit C]
theorem cg_obN (C : CG σ σ1) (A B : Int → Int) (j : Int) : obN σ1 A B j = obN σ A B j := by
  unfold obN nwS wL
  rw [cg_d C, cg_nm C, cg_f C, cg_nB C, cg_ws C, C.2.2.2 fW_objects (by decide)]
theorem cg_ob (C : CG σ σ1) : obV σ1 = obV σ := by
  funext a b
  unfold obV frA artN
  rw [cg_d C, cg_nm C, C.1 fT_kinds (by decide)]
theorem cg_li (C : CG σ σ1) (kind to : Int) : ∀ n k, liR σ1 kind to n k = liR σ kind to n k := by
  intro n
  have e1 : sgE σ1 to = sgE σ to := by
    funext k
    unfold sgE
    rw [C.1 fT_kinds (by decide)]
  have e2 : sgN σ1 to = sgN σ to := by
    funext k
    unfold sgN
    rw [C.1 fT_kinds (by decide)]
  have e3 : sgO σ1 kind to = sgO σ kind to := by
    funext k
    unfold sgO
    rw [e1, cg_ob C, C.2.2.2 fW_parents (by decide), C.2.2.2 fW_kindOf (by decide)]
  induction n with
  | zero => intro k; rfl
  | succ n ih =>
    intro k
    unfold liR
    rw [e1, e2, e3, cg_ob C, ih]
theorem cg_sV (C : CG σ σ1) : saV0 σ1 = saV0 σ := by
  funext q
  unfold saV0 sevB
  rw [cg_d C, cg_nm C, C.1 fT_kinds (by decide)]
theorem cg_sR (C : CG σ σ1) : saR0 σ1 = saR0 σ := by
  funext q
  unfold saR0
  rw [cg_sV C, C.2.2.2 fW_verbRelations (by decide)]
theorem cg_sA (C : CG σ σ1) : saLA σ1 = saLA σ := by
  funext q
  unfold saLA
  rw [cg_sR C, C.2.2.2 fW_relationA (by decide), cg_li C]
theorem cg_sB (C : CG σ σ1) (N : Nat) : saLB σ1 N = saLB σ N := by
  funext q
  unfold saLB
  rw [cg_sR C, C.2.2.2 fW_relationB (by decide), cg_li C]
theorem cg_sL (C : CG σ σ1) (N : Nat) : saL σ1 N = saL σ N := by
  funext q
  have e : saG σ1 N = saG σ N := by
    funext k
    unfold saG
    rw [cg_sV C, cg_sA C, cg_sB C]
  unfold saL
  rw [e]
theorem cg_sK (C : CG σ σ1) {N : Nat} {τ : ga_S} {m : Int} (h : saK σ N τ m) : saK σ1 N τ m := by
  unfold saK at h ⊢
  rw [cg_sA C, cg_sB C, cg_sR C]
  exact h
theorem cg_nu (C : CG σ σ1) : nuT σ1 = nuT σ := by
  funext k
  unfold nuT
  rw [C.2.1, C.1 fT_places (by decide), C.1 fT_lengths (by decide)]
theorem cg_vlB (C : CG σ σ1) : vlB σ1 = vlB σ := by
  funext t a b
  unfold vlB
  rw [cg_d C, cg_nm C, C.1 fT_kinds (by decide), C.2.2.2 fW_valueTypes (by decide)]
theorem cg_vR (C : CG σ σ1) {a b s : Int} {ρ : ga_S} (h : vlRow σ a b s ρ) : vlRow σ1 a b s ρ := by
  unfold vlRow at h ⊢
  rw [cg_d C, cg_nm C, cg_nu C, C.1 fT_kinds (by decide), C.1 fT_places (by decide), C.1 fT_lengths (by decide)]
  exact h
theorem cg_vM (C : CG σ σ1) {a b q : Int} {ρ : ga_S} (h : vlRoM σ a b q ρ) : vlRoM σ1 a b q ρ := by
  unfold vlRoM at h ⊢
  rw [cg_d C, cg_nm C, cg_nu C, C.1 fT_kinds (by decide), C.1 fT_places (by decide), C.1 fT_lengths (by decide)]
  exact h
theorem cg_tkS (C : CG σ σ1) : tkS σ σ1 := by
  refine ⟨C.1, by rw [C.2.1], by rw [C.2.2.1], DX_f (DX_r σ) (cg_dic C), ?_⟩
  have w : ∀ F, F ∈ cgL → σ1 F = σ F := C.2.2.2
  exact ⟨fun F hF => by rw [w F (mem_all (L := cntL) (by decide) F hF)]; exact Int.le_refl _, fun k _ _ => by rw [w fW_parents (by decide)], fun o _ _ => Or.inl (by rw [w fW_kindOf (by decide)]), fun a _ _ => by rw [w fW_adjectiveKinds (by decide), w fW_contraries (by decide)]; exact ⟨rfl, rfl⟩, fun v _ _ => by rw [w fW_valueTypes (by decide)], fun p _ _ => by rw [w fW_propertyTypes (by decide), w fW_propertyKinds (by decide)]; exact ⟨rfl, fun _ _ _ z => z⟩, fun a _ _ => by rw [w fW_actionKinds (by decide)], by rw [C.2.2.1], by rw [C.2.1]⟩
end
/-- a run as the act has it -/
theorem RU_S {σ τ σ1 τ1 : ga_S} {f : Int} {N : Nat} (S : tkS σ σ1) (T : tkT τ τ1) {r a b : Int} (h : RU σ τ f N r a b) : RU σ1 τ1 f N r a b := by
  obtain ⟨h1, h2, h3, h4⟩ := h
  refine ⟨h1, by rw [T fM_runFrom (by decide)]; exact h2, by rw [T fM_runSize (by decide)]; exact h3, ?_⟩
  unfold frB at h4 ⊢
  rw [S.1 fT_kinds (by decide)]
  exact h4

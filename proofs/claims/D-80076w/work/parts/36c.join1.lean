/-! a sentence is checked and done, on both sides: sorts with names that are new -/
/-- what a story may change -/
def bgC : List Nat := [fW_kinds, fW_parents, fW_types, fW_typeValues, fW_values, fW_valueTypes, fW_objects, fW_kindOf, fW_placed, fW_placeAt, fW_adjectives, fW_adjectiveKinds, fW_contraries, fW_defined, fW_told, fW_properties, fW_propertyTypes, fW_propertyKinds, fW_has, fW_numbers, fW_lengths, fW_ways, fW_toldWays, fW_wayFrom, fW_wayBy, fW_relations, fW_relationA, fW_relationB, fW_oneA, fW_oneB, fW_related, fW_verbs, fW_verbRelations, fW_actions, fW_actionKinds, fW_rules, fW_rule, fW_commands, fW_commandActions, fW_commandWords, fW_commandSlots, fW_commandKinds, fW_commandFrom, fW_commandSize, fW_commandLetters, fW_commandUsed, fD_letters, fD_used, fD_count, fD_froms, fD_sizes, fD_sorts, fD_numbers, fD_spelled, fD_size, fR_fault, fR_where, fR_rank, fR_p, fR_bad, fR_sort, fR_names, fR_nameFrom, fR_nameTo, fR_runs, fR_runFrom, fR_runTo, fR_verb, fR_not, fR_usually, fR_firstOne, fR_secondOne, fR_isValue, fR_whatAt, fR_placeSort, fR_placeFrom, fR_placeTo, fR_tests, fR_testFrom, fR_testTo, fR_phrases, fR_phraseFrom, fR_phraseTo, fR_latest, fR_itKind, fR_nounKind, fR_form, fR_thingFrom, fR_thingTo, fR_propertyFrom, fR_propertyTo, fR_behindFrom, fR_isNot, fR_newNames, fR_newFrom, fR_newTo, fR_foundAdjective, fR_foundValue, fR_foundProperty, fR_describedKind, fR_described, fR_describedWhich, fR_describedValue, fR_cuts, fR_actionFound, fR_objectFound, fR_kind0, fR_object0, fR_readings, fR_isDescribed, fR_isTyped, fR_isAdjectival, fR_rule, fR_draft, fR_before, fR_behind, fR_verbAt, fR_commandKind, fR_isDirection, fR_commandSlot, fR_commandCount, fR_commandFrom, fR_commandTo, fQ_sort, fQ_action, fQ_object, fQ_kind, fQ_adjectives, fQ_which, fQ_values, fQ_tests, fQ_phrases, fS_what, fS_not, fS_thing, fS_other, fS_which, fS_value, fS_length, fT_places, fT_lengths, fT_wrong, fT_kinds, fT_count, fT_at]
def bgM : List Nat := [fM_at, fM_lexSize, fM_lexWord, fM_lexSort, fM_lexIndex, fM_lexLong, fM_lexes, fM_kinds, fM_above, fM_types, fM_objects, fM_kindOf, fM_way, fM_there, fM_adjectives, fM_adjectiveKind, fM_contrary, fM_definedFrom, fM_definedTests, fM_objectIs, fM_kindIs, fM_values, fM_valueType, fM_properties, fM_propertyType, fM_kindHas, fM_objectTold, fM_objectSays, fM_objectLong, fM_kindTold, fM_kindSays, fM_kindLong, fM_relations, fM_relates, fM_relatesTo, fM_firstOne, fM_secondOne, fM_related, fM_verbs, fM_verbRelation, fM_actions, fM_actionKind, fM_ways, fM_wayFrom, fM_wayBy, fM_wayTo, fM_commands, fM_commandAction, fM_commandSize, fM_commandWord, fM_commandKind, fM_described, fM_matches, fM_isBad, fM_badAt, fM_runFrom, fM_runSize, fM_runs, fM_sort, fM_listFrom, fM_listSize, fM_placeWay, fM_placeRun, fM_isNot, fM_isUsually, fM_isAre, fM_what, fM_firstIsOne, fM_secondIsOne, fM_textAt, fM_tForm, fM_tNot, fM_tThing, fM_tThingRun, fM_tRun, fM_tWhat, fM_tWay, fM_tOther, fM_tOtherRun, fM_tFirst, fM_tEnd, fM_tCount, fM_tShown, fM_pWhat, fM_pTest, fM_pFirst, fM_pCount, fM_thingRun, fM_thingSort, fM_thingAt, fM_actingRun, fM_actingOther, fM_bestRank, fM_bestPlace, fM_bestFault, fM_newRun, fM_news, fM_readings, fM_readKind, fM_readAdjective, fM_readCount, fM_foundAdjective, fM_chunk, fM_itKind, fM_nounKind, fM_tests, fM_qForm, fM_qNot, fM_qThing, fM_qProperty, fM_qWhat, fM_qLong, fM_qOther, fM_phrases, fM_qPhrase, fM_qTest, fM_tried, fM_triedObject, fM_rules, fM_ruleSort, fM_ruleAction, fM_ruleObject, fM_ruleKind, fM_ruleAdjectives, fM_ruleAdjective, fM_ruleFrom, fM_ruleTests, fM_rulePhrase, fM_rulePhrases, fM_listMeaning, fM_how, fM_aheadObjects, fM_aheadCount, fM_behindObjects, fM_behindCount, fM_saidRelation, fM_spare, fM_slotWord, fM_slotWords, fM_newSize, fM_newWord, fM_newKind, fM_numberLong, fM_isDry, fM_nounObject, fM_inside, fM_insides, fM_done, fM_isEnded, fM_said, fM_saids, fM_saidNoun]
def sbC (L : List Nat) : Bool := L.all (fun F => bgC.contains F && !(F == fT_at))
def sbM (L : List Nat) : Bool := L.all (fun F => bgM.contains F && !(F == fM_isDry))
theorem sbC_f {L : List Nat} {σ σ1 : ga_S} (h : fr L σ σ1) (hL : sbC L = true) : fr bgC σ σ1 ∧ σ1 fT_at = σ fT_at := by
  have k := List.all_eq_true.mp hL
  refine ⟨fr_sub h (fun F hF => ?_), h _ (fun hF => ?_)⟩
  · have := k F hF
    rw [Bool.and_eq_true] at this
    exact List.contains_iff_mem.mp this.1
  · have := k _ hF
    rw [Bool.and_eq_true] at this
    simp at this
theorem sbM_f {L : List Nat} {σ σ1 : ga_S} (h : fr L σ σ1) (hL : sbM L = true) : fr bgM σ σ1 ∧ σ1 fM_isDry = σ fM_isDry := by
  have k := List.all_eq_true.mp hL
  refine ⟨fr_sub h (fun F hF => ?_), h _ (fun hF => ?_)⟩
  · have := k F hF
    rw [Bool.and_eq_true] at this
    exact List.contains_iff_mem.mp this.1
  · have := k _ hF
    rw [Bool.and_eq_true] at this
    simp at this
def slF3 : List Nat := [fW_rule, fW_defined, fR_draft]
/-- the same fault at the same place -/
def bd0 (σ τ : ga_S) : Prop := σ fR_fault 0 0 ≠ 0 ∧ τ fM_bestFault 0 0 = σ fR_fault 0 0 ∧ τ fM_bestPlace 0 0 = σ fR_where 0 0
def bdO (σ τ σ1 τ1 : ga_S) : Prop := bd0 σ1 τ1 ∧ fr bgC σ σ1 ∧ fr bgM τ τ1 ∧ (∀ F, F ∈ slF3 → σ1 F = σ F) ∧ τ1 fM_isDry 0 0 = 0
def gdO (σ τ σ2 τ2 : ga_S) (g : Int) : Prop := σ2 fR_fault 0 0 = 0 ∧ τ2 fM_bestFault 0 0 = 0 ∧ (∃ g', g ≤ g' ∧ g' ≤ g + (if σ fR_sort 0 0 = 8 then 1 else 0) ∧ SI σ2 τ2 g') ∧ fr bgC σ σ2 ∧ fr bgM τ τ2 ∧ σ2 fT_at = σ fT_at ∧ τ2 fM_isDry 0 0 = 0
def snO (σ τ : ga_S) (g f : Int) (d : Nat) : Prop := ∃ σ1 τ1, c_r_check d σ = some (0, σ1) ∧ c_m_asked d τ f = some (0, τ1) ∧ (bdO σ τ σ1 τ1 ∨ (σ1 fR_fault 0 0 = 0 ∧ τ1 fM_bestFault 0 0 = 0 ∧ ∃ b σ2 τ2, c_r_act d σ1 = some (b, σ2) ∧ c_m_does1 d τ1 f = some (0, τ2) ∧ (bdO σ τ σ2 τ2 ∨ gdO σ τ σ2 τ2 g)))
def snH (σ τ : ga_S) (f : Int) (N : Nat) (g : Int) : Prop := E0 σ τ f N ∧ SI σ τ g ∧ σ fR_fault 0 0 = 0 ∧ 2 * τ fM_runs 0 0 ≤ 5001 ∧ τ fM_isDry 0 0 = 0 ∧ IN σ ∧ rKeys τ ∧ τ fM_story 0 = σ fT_bytes 0 ∧ σ fT_count 0 0 = N + 1 ∧ σ fT_kinds 0 N = 3
theorem FG_bad {σ τ : ga_S} {c : Int} (h1 : FT σ c) (h2 : GT τ c) (hc : c ≠ 1000000) : bd0 σ τ := by
  rcases h1 with h1 | ⟨_, a1, a2, a3, a4⟩
  · exact absurd h1.1 hc
  rcases h2 with h2 | ⟨_, b1, b2, b3, b4⟩
  · exact absurd h2.1 hc
  have e : σ fR_rank 0 0 = τ fM_bestRank 0 0 := by omega
  exact ⟨by rw [a4]; exact fOf_0 _, by rw [a4, b4, e], by omega⟩
theorem FG_ok {σ τ : ga_S} {c : Int} (h1 : FT σ c) (h2 : GT τ c) (hc : c = 1000000) : σ fR_fault 0 0 = 0 ∧ τ fM_bestFault 0 0 = 0 := by
  rcases h1 with h1 | h1
  · rcases h2 with h2 | h2
    · exact ⟨h1.2, h2.2⟩
    · omega
  · omega
theorem AF_bd {σ τ : ga_S} {why t : Int} (h : AF σ τ why t) (hw : why ≠ 0) : bd0 σ τ := by
  obtain ⟨a, b, c, e⟩ := h
  exact ⟨by rw [a]; exact hw, by rw [c, a], by rw [e, b]⟩
section
variable {σ τ σ1 τ1 σ2 τ2 : ga_S} {f : Int} {N : Nat} {g : Int}
/-- what the act of a sentence finds -/
def acH (σ τ σ1 τ1 : ga_S) (f : Int) (N : Nat) (g : Int) : Prop := CG σ σ1 ∧ tkS σ σ1 ∧ tkT τ τ1 ∧ E0 σ1 τ1 f N ∧ SI σ1 τ1 g ∧ σ1 fR_fault 0 0 = 0 ∧ τ1 fM_bestFault 0 0 = 0
theorem acH_mk (H : snH σ τ f N g) (K : KC σ σ1) {M : List Nat} (f2 : fr M τ τ1) (hM : siM.all (fun F => !(M.contains F)) = true) (hq : ∀ F, F ∈ qL → ∀ k, k < τ fM_tests 0 0 → τ1 F 0 k = τ F 0 k) (h0 : σ1 fR_fault 0 0 = 0 ∧ τ1 fM_bestFault 0 0 = 0) : acH σ τ σ1 τ1 f N g := by
  have C := CG_K K
  have S := cg_tkS C
  have T : tkT τ τ1 := fun F hF => fr_no f2 hM (mem_all (L := tkM) (by decide) F hF)
  have I1 := SI_ck H.2.1 K f2 hM hq
  have ev := tk_env ⟨H.1.1, H.1.2.1⟩ S T
  exact ⟨C, S, T, ⟨ev.1, ev.2, I1.2.2.1.1, I1.1⟩, I1, h0.1, h0.2⟩
/-- a bad end -/
theorem bd_mk (H : snH σ τ f N g) (h : bd0 σ1 τ1) {KL KM : List Nat} (k1 : fr KL σ σ1) (hk1 : sbC KL = true) (hs : slF3.all (fun F => !(KL.contains F)) = true) (k2 : fr KM τ τ1) (hk2 : sbM KM = true) : bdO σ τ σ1 τ1 := by
  have a := sbC_f k1 hk1
  have b := sbM_f k2 hk2
  exact ⟨h, a.1, b.1, fun F hF => fr_no k1 hs hF, by rw [b.2]; exact H.2.2.2.2.1⟩
theorem bd_mk2 (H : snH σ τ f N g) (h : bd0 σ2 τ2) {KL KM L M : List Nat} (k1 : fr KL σ σ1) (hk1 : sbC KL = true) (hs1 : slF3.all (fun F => !(KL.contains F)) = true) (k2 : fr KM τ τ1) (hk2 : sbM KM = true) (f1 : fr L σ1 σ2) (hL : sbC L = true) (hs2 : slF3.all (fun F => !(L.contains F)) = true) (f2 : fr M τ1 τ2) (hM : sbM M = true) : bdO σ τ σ2 τ2 := by
  have a := sbC_f k1 hk1
  have b := sbM_f k2 hk2
  have a' := sbC_f f1 hL
  have b' := sbM_f f2 hM
  exact ⟨h, fr_trans a.1 a'.1, fr_trans b.1 b'.1, fun F hF => (fr_no f1 hs2 hF).trans (fr_no k1 hs1 hF), by rw [b'.2, b.2]; exact H.2.2.2.2.1⟩
/-- a good end -/
theorem gd_mk (H : snH σ τ f N g) {g' : Int} {KL KM L M : List Nat} (k1 : fr KL σ σ1) (hk1 : sbC KL = true) (k2 : fr KM τ τ1) (hk2 : sbM KM = true) (f1 : fr L σ1 σ2) (hL : sbC L = true) (f2 : fr M τ1 τ2) (hM : sbM M = true) (h1 : σ2 fR_fault 0 0 = 0) (h2 : τ2 fM_bestFault 0 0 = 0) (hg : g ≤ g' ∧ g' ≤ g + (if σ fR_sort 0 0 = 8 then 1 else 0)) (I : SI σ2 τ2 g') : gdO σ τ σ2 τ2 g := by
  have a := sbC_f k1 hk1
  have b := sbM_f k2 hk2
  have a' := sbC_f f1 hL
  have b' := sbM_f f2 hM
  exact ⟨h1, h2, ⟨g', hg.1, hg.2, I⟩, fr_trans a.1 a'.1, fr_trans b.1 b'.1, by rw [a'.2, a.2], by rw [b'.2, b.2]; exact H.2.2.2.2.1⟩
/-- sorts whose checks have no tests -/
theorem sn_X (H : snH σ τ f N g) {A : ga_S → ga_S → Prop} {d : Nat} (X : ckX σ τ (c_r_check d σ) (c_m_asked d τ f) A) (act : ∀ σ1 τ1, acH σ τ σ1 τ1 f N g → fr ksL σ σ1 → fr ksM τ τ1 → A σ1 τ1 → ∃ b σ2 τ2, c_r_act d σ1 = some (b, σ2) ∧ c_m_does1 d τ1 f = some (0, τ2) ∧ (bdO σ τ σ2 τ2 ∨ gdO σ τ σ2 τ2 g)) : snO σ τ g f d := by
  obtain ⟨σ1, τ1, c, x1, x2, K, M, F1, G1, k1, m1, a⟩ := X
  refine ⟨σ1, τ1, x1, x2, ?_⟩
  by_cases z : c = 1000000
  · have o := FG_ok F1 G1 z
    have R := acH_mk H K m1 (by decide) (fun F hF k _ => by rw [fr_no m1 (M := qL) (by decide) hF]) o
    exact Or.inr ⟨o.1, o.2, act σ1 τ1 R k1 m1 (a z)⟩
  · exact Or.inl (bd_mk H (FG_bad F1 G1 z) K.1 (by decide) (by decide) m1 (by decide))
theorem g_same (x : Int) : g ≤ g ∧ g ≤ g + (if x = 8 then (1 : Int) else 0) := by
  refine ⟨Int.le_refl _, ?_⟩
  split <;> omega
theorem sn_19 (H : snH σ τ f N g) (hs : σ fR_sort 0 0 = 19) (ht : τ fM_sort 0 0 = 19) (n0 : nn σ τ f 0 0) (r0 : rr σ τ f 0 1) (r1 : rr σ τ f 1 2) (ho : (τ fM_firstIsOne 0 0 = σ fR_firstOne 0 0 ∧ (σ fR_firstOne 0 0 = 0 ∨ σ fR_firstOne 0 0 = 1)) ∧ (τ fM_secondIsOne 0 0 = σ fR_secondOne 0 0 ∧ (σ fR_secondOne 0 0 = 0 ∨ σ fR_secondOne 0 0 = 1))) {d : Nat} (hd : 20 ≤ d) : snO σ τ g f d := by
  have hm : τ fM_runs 0 0 ≤ 2600 := by have := H.2.2.2.1; omega
  refine sn_X H (ck_19 H.1 H.2.2.1 hm hs ht n0 r0 r1 (d := d) (by omega) f) ?_
  intro σ1 τ1 ⟨C, S, T, E, I, h1, h2⟩ k1 m1 ⟨a1, a2, a3, a4, a5, a6⟩
  obtain ⟨d, rfl⟩ : ∃ e, d = e + 1 := ⟨d - 1, by omega⟩
  have R0 := RU_S S T (RU_of H.1.1 n0 hm)
  have R1 := RU_S S T (RU_of H.1.1 r0 hm)
  have R2 := RU_S S T (RU_of H.1.1 r1 hm)
  have en : σ1 fR_nameFrom = σ fR_nameFrom := k1 _ (by decide)
  have em : σ1 fR_nameTo = σ fR_nameTo := k1 _ (by decide)
  have er : σ1 fR_runFrom = σ fR_runFrom := k1 _ (by decide)
  have et : σ1 fR_runTo = σ fR_runTo := k1 _ (by decide)
  have eR : nR σ1 = nR σ := by funext i; unfold nR; rw [er, et, cg_nm C]
  have eW : wN σ1 = wN σ := by funext i; unfold wN; rw [en, em, cg_ws C]
  rw [← en, ← em] at R0
  rw [← er, ← et] at R1 R2
  obtain ⟨σ2, τ2, x1, x2, x3, x4, x5, x6, x7, x8⟩ := act_19 E I.2.2.1 I.2.1 (by rw [k1 _ (by decide)]; exact hs) (by rw [m1 _ (by decide)]; exact ht) R0 R1 R2 (by rw [en, em]; exact n0.2.2.2.2.1) (by rw [cg_kd C, eR]; exact a1) (by rw [cg_kd C, eR]; exact a2) (by rw [cg_kd C, eR]; exact a3) (by rw [cg_kd C, eR]; exact a4) (by rw [cg_nB C, eW]; exact a5) (by rw [C.2.2.2 _ (by decide)]; exact a6) (by rw [m1 _ (by decide), k1 _ (by decide)]; exact ho.1) (by rw [m1 _ (by decide), k1 _ (by decide)]; exact ho.2) (d := d) (by omega) f
  refine ⟨1, σ2, τ2, x1, x2, Or.inr ?_⟩
  refine gd_mk H k1 (by decide) m1 (by decide) x3 (by decide) x4 (by decide) (by rw [x3 _ (by decide)]; exact h1) (by rw [x4 _ (by decide)]; exact h2) (g_same _) ?_
  exact SI_act I x8 x3 (by decide) x4 (by decide) x5 x6 x7 (kb0_f I.2.2.2.1 (fr_mem x3 (by decide)) (x4 _ (by decide))) (tv8_f I.2.2.2.2.1 (x3 _ (by decide)) (x3 _ (by decide))) (LT_f I.2.2.2.2.2.2.2.1 (x8.2.2.2.2.1 _ (by decide)) (x3 _ (by decide)) (x4 _ (by decide))) (fun a _ _ => by rw [x4 _ (by decide)]) (fun a z0 z1 => by rw [x3 fW_adjectives (by decide)] at z1; omega) (NW_e (x3 _ (by decide)) (x3 _ (by decide)))
theorem sn_18 (H : snH σ τ f N g) (hs : σ fR_sort 0 0 = 18) (ht : τ fM_sort 0 0 = 18) (n0 : nn σ τ f 0 0) (r0 : rr σ τ f 0 1) (r1 : rr σ τ f 1 2) (hr : σ fR_runs 0 0 = 2) (ho : oC σ) {d : Nat} (hd : 20 ≤ d) : snO σ τ g f d := by
  have hm : τ fM_runs 0 0 ≤ 2600 := by have := H.2.2.2.1; omega
  refine sn_X H (ck_18 H.1 H.2.2.1 hm hs ht n0 r0 r1 (ho 0 (Int.le_refl _) (by omega)) (d := d) (by omega) f) ?_
  intro σ1 τ1 ⟨C, S, T, E, I, h1, h2⟩ k1 m1 ⟨a1, a2, a3, a4, a5⟩
  obtain ⟨d, rfl⟩ : ∃ e, d = e + 1 := ⟨d - 1, by omega⟩
  have R0 := RU_S S T (RU_of H.1.1 n0 hm)
  have R1 := RU_S S T (RU_of H.1.1 r0 hm)
  have R2 := RU_S S T (RU_of H.1.1 r1 hm)
  have en : σ1 fR_nameFrom = σ fR_nameFrom := k1 _ (by decide)
  have em : σ1 fR_nameTo = σ fR_nameTo := k1 _ (by decide)
  have er : σ1 fR_runFrom = σ fR_runFrom := k1 _ (by decide)
  have et : σ1 fR_runTo = σ fR_runTo := k1 _ (by decide)
  have eN : nN σ1 = nN σ := by funext i; unfold nN; rw [en, em, cg_nm C]
  have eW : wC σ1 = wC σ := by funext i; unfold wC; rw [er, et, cg_ws C]
  rw [← en, ← em] at R0
  rw [← er, ← et] at R1 R2
  obtain ⟨σ2, τ2, x1, x2, x3, x4, x5, x6, x7, x8, x9, x10⟩ := act_18 E I.2.2.1 I.2.1 (by rw [k1 _ (by decide)]; exact hs) (by rw [m1 _ (by decide)]; exact ht) R0 R1 R2 (by rw [er, et]; exact r0.2.2.2.2.1) (by rw [er, et]; exact r1.2.2.2.2.1) (by rw [cg_d C, eN]; exact a1) (by rw [cg_d C, eN]; exact a2) (by rw [cg_nB C, eW]; exact a3) (by rw [cg_nB C, eW]; exact a4) (by rw [C.2.2.2 _ (by decide)]; exact a5) (d := d) (by omega) f
  refine ⟨1, σ2, τ2, x1, x2, Or.inr ?_⟩
  refine gd_mk H k1 (by decide) m1 (by decide) x3 (by decide) x4 (by decide) (by rw [x3 _ (by decide)]; exact h1) (by rw [x4 _ (by decide)]; exact h2) (g_same _) ?_
  exact SI_act I x8 x3 (by decide) x4 (by decide) x5 x6 x7 (kb0_f I.2.2.2.1 (fr_mem x3 (by decide)) (x4 _ (by decide))) (tv8_f I.2.2.2.2.1 (x3 _ (by decide)) (x3 _ (by decide))) (LT_f I.2.2.2.2.2.2.2.1 (x8.2.2.2.2.1 _ (by decide)) (x3 _ (by decide)) (x4 _ (by decide))) (fun a _ z => x9 a z) x10 (NW_e (x3 _ (by decide)) (x3 _ (by decide)))
theorem sn_17 (H : snH σ τ f N g) (hs : σ fR_sort 0 0 = 17) (ht : τ fM_sort 0 0 = 17) (n0 : nn σ τ f 0 0) (r0 : rr σ τ f 0 1) (r1 : rr σ τ f 1 2) {d : Nat} (hd : 20 ≤ d) : snO σ τ g f d := by
  have hm : τ fM_runs 0 0 ≤ 2600 := by have := H.2.2.2.1; omega
  refine sn_X H (ck_17 H.1 H.2.2.1 hm hs ht n0 r0 r1 (d := d) (by omega) f) ?_
  intro σ1 τ1 ⟨C, S, T, E, I, h1, h2⟩ k1 m1 ⟨a1, a2, a3, a4, a5⟩
  obtain ⟨d, rfl⟩ : ∃ e, d = e + 2 := ⟨d - 2, by omega⟩
  have R0 := RU_S S T (RU_of H.1.1 n0 hm)
  have R1 := RU_S S T (RU_of H.1.1 r0 hm)
  have R2 := RU_S S T (RU_of H.1.1 r1 hm)
  have en : σ1 fR_nameFrom = σ fR_nameFrom := k1 _ (by decide)
  have em : σ1 fR_nameTo = σ fR_nameTo := k1 _ (by decide)
  have er : σ1 fR_runFrom = σ fR_runFrom := k1 _ (by decide)
  have et : σ1 fR_runTo = σ fR_runTo := k1 _ (by decide)
  have eN : nN σ1 = nN σ := by funext i; unfold nN; rw [en, em, cg_nm C]
  have eR : nR σ1 = nR σ := by funext i; unfold nR; rw [er, et, cg_nm C]
  have eW : wC σ1 = wC σ := by funext i; unfold wC; rw [er, et, cg_ws C]
  rw [← en, ← em] at R0
  rw [← er, ← et] at R1 R2
  obtain ⟨b, σ2, τ2, x1, x2, x3, x4, x5⟩ := act_17 E I.2.2.1 I.2.1 I.2.2.2.1 h1 h2 (by rw [k1 _ (by decide)]; exact hs) (by rw [m1 _ (by decide)]; exact ht) R0 R1 R2 (by rw [er, et]; exact r1.2.2.2.2.1) (by rw [cg_d C, eN]; exact a1) (by rw [cg_d C, eN]; exact a2) (by rw [cg_ty C, eR]; exact a3) (by rw [cg_ty C, eR]; exact a4) (by rw [cg_f C, cg_d C, cg_nB C, eR, eW, C.2.2.2 fW_properties (by decide)]; exact a5) (d := d) (by omega) f
  refine ⟨b, σ2, τ2, x1, x2, ?_⟩
  rcases x5 with ⟨y1, y2, y3, y4, y5, y6, y7⟩ | y
  · right
    refine gd_mk H k1 (by decide) m1 (by decide) x3 (by decide) x4 (by decide) y1 y2 (g_same _) ?_
    exact SI_act I y7 x3 (by decide) x4 (by decide) y3 y4 y5 y6 (tv8_f I.2.2.2.2.1 (x3 _ (by decide)) (x3 _ (by decide))) (LT_f I.2.2.2.2.2.2.2.1 (y7.2.2.2.2.1 _ (by decide)) (x3 _ (by decide)) (x4 _ (by decide))) (fun a _ _ => by rw [x4 _ (by decide)]) (fun a z0 z1 => by rw [x3 fW_adjectives (by decide)] at z1; omega) (NW_e (x3 _ (by decide)) (x3 _ (by decide)))
  · exact Or.inl (bd_mk2 H (AF_bd y (by decide)) k1 (by decide) (by decide) m1 (by decide) x3 (by decide) (by decide) x4 (by decide))
theorem sn_7 (H : snH σ τ f N g) (hs : σ fR_sort 0 0 = 7) (ht : τ fM_sort 0 0 = 7) (r0 : rr σ τ f 0 0) (r1 : rr σ τ f 1 1) {d : Nat} (hd : 20 ≤ d) : snO σ τ g f d := by
  have hm : τ fM_runs 0 0 ≤ 2600 := by have := H.2.2.2.1; omega
  refine sn_X H (ck_7 H.1 H.2.2.1 hm hs ht r0 r1 (d := d) (by omega) f) ?_
  intro σ1 τ1 ⟨C, S, T, E, I, h1, h2⟩ k1 m1 ⟨a1, a2, a3, a4⟩
  obtain ⟨d, rfl⟩ : ∃ e, d = e + 1 := ⟨d - 1, by omega⟩
  have R0 := RU_S S T (RU_of H.1.1 r0 hm)
  have R1 := RU_S S T (RU_of H.1.1 r1 hm)
  have er : σ1 fR_runFrom = σ fR_runFrom := k1 _ (by decide)
  have et : σ1 fR_runTo = σ fR_runTo := k1 _ (by decide)
  have eR : nR σ1 = nR σ := by funext i; unfold nR; rw [er, et, cg_nm C]
  rw [← er, ← et] at R0 R1
  obtain ⟨σ2, τ2, x1, x2, x3, x4, x5, x6, x7, x8⟩ := act_7 E I.2.2.1 I.2.1 (by rw [k1 _ (by decide)]; exact hs) (by rw [m1 _ (by decide)]; exact ht) R0 R1 (by rw [er, et]; exact r0.2.2.2.2.1) (by rw [cg_d C, eR]; exact a1) (by rw [cg_d C, eR]; exact a2) (by rw [cg_vb C, er, et]; exact a3) (by rw [C.2.2.2 _ (by decide)]; exact a4) (d := d) (by omega) f
  refine ⟨1, σ2, τ2, x1, x2, Or.inr ?_⟩
  refine gd_mk H k1 (by decide) m1 (by decide) x3 (by decide) x4 (by decide) (by rw [x3 _ (by decide)]; exact h1) (by rw [x4 _ (by decide)]; exact h2) (g_same _) ?_
  exact SI_act I x8 x3 (by decide) x4 (by decide) x5 x6 x7 (kb0_f I.2.2.2.1 (fr_mem x3 (by decide)) (x4 _ (by decide))) (tv8_f I.2.2.2.2.1 (x3 _ (by decide)) (x3 _ (by decide))) (LT_f I.2.2.2.2.2.2.2.1 (x8.2.2.2.2.1 _ (by decide)) (x3 _ (by decide)) (x4 _ (by decide))) (fun a _ _ => by rw [x4 _ (by decide)]) (fun a z0 z1 => by rw [x3 fW_adjectives (by decide)] at z1; omega) (NW_e (x3 _ (by decide)) (x3 _ (by decide)))
theorem sn_8 (H : snH σ τ f N g) (hg : g + 1 ≤ 380) (hs : σ fR_sort 0 0 = 8) (ht : τ fM_sort 0 0 = 8) (r0 : rr σ τ f 0 0) (r1 : rr σ τ f 1 1) {d : Nat} (hd : 20 ≤ d) : snO σ τ g f d := by
  have hm : τ fM_runs 0 0 ≤ 2600 := by have := H.2.2.2.1; omega
  refine sn_X H (ck_8 H.1 H.2.2.1 hm hs ht r0 r1 (d := d) (by omega) f) ?_
  intro σ1 τ1 ⟨C, S, T, E, I, h1, h2⟩ k1 m1 ⟨a1, a2, a3, a4⟩
  obtain ⟨d, rfl⟩ : ∃ e, d = e + 2 := ⟨d - 2, by omega⟩
  have R0 := RU_S S T (RU_of H.1.1 r0 hm)
  have R1 := RU_S S T (RU_of H.1.1 r1 hm)
  have er : σ1 fR_runFrom = σ fR_runFrom := k1 _ (by decide)
  have et : σ1 fR_runTo = σ fR_runTo := k1 _ (by decide)
  have eR : nR σ1 = nR σ := by funext i; unfold nR; rw [er, et, cg_nm C]
  have eW : wC σ1 = wC σ := by funext i; unfold wC; rw [er, et, cg_ws C]
  rw [← er, ← et] at R0 R1
  obtain ⟨σ2, τ2, g', x1, x2, x3, x4, x5, x6, x7, y1, y2, x8⟩ := act_8 E I.2.2.1 hg I.2.1 (by rw [k1 _ (by decide)]; exact hs) (by rw [m1 _ (by decide)]; exact ht) R0 R1 (by rw [er, et]; exact r1.2.2.2.2.1) (by rw [cg_kd C, eR]; exact a1) (by rw [cg_ty C, eR]; exact a2) (by rw [cg_kd C, cg_ty C, eR]; exact a3) (by rw [cg_nB C, eW]; exact a4) (d := d) (by omega) f
  refine ⟨1, σ2, τ2, x1, x2, Or.inr ?_⟩
  refine gd_mk H k1 (by decide) m1 (by decide) x3 (by decide) x4 (by decide) (by rw [x3 _ (by decide)]; exact h1) (by rw [x4 _ (by decide)]; exact h2) (g' := g') ⟨y1, by rw [if_pos hs]; exact y2⟩ ?_
  exact SI_act I x8 x3 (by decide) x4 (by decide) x5 x6 x7 (kb0_f I.2.2.2.1 (fr_mem x3 (by decide)) (x4 _ (by decide))) (tv8_f I.2.2.2.2.1 (x3 _ (by decide)) (x3 _ (by decide))) (LT_f I.2.2.2.2.2.2.2.1 (x8.2.2.2.2.1 _ (by decide)) (x3 _ (by decide)) (x4 _ (by decide))) (fun a _ _ => by rw [x4 _ (by decide)]) (fun a z0 z1 => by rw [x3 fW_adjectives (by decide)] at z1; omega) (NW_e (x3 _ (by decide)) (x3 _ (by decide)))
end

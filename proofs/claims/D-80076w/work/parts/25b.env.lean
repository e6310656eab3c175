/-! checks: what stands still while a sentence is checked; notes; what names mean -/
def dicL : List Nat := [fD_count, fD_sorts, fD_numbers, fD_froms, fD_sizes, fD_letters, fD_used]
theorem dic_c {σ σ' : ga_S} (h : ∀ F, F ∈ dicL → σ' F = σ F) : fnd σ' = fnd σ ∧ dN σ' = dN σ ∧ dS σ' = dS σ ∧ (wfD σ → wfD σ') := by
  have e : fnd σ' = fnd σ := by
    funext nm i
    unfold fnd ent
    rw [h fD_count (by decide), h fD_sorts (by decide), h fD_sizes (by decide), h fD_letters (by decide), h fD_froms (by decide)]
  refine ⟨e, ?_, ?_, ?_⟩
  · funext nm s
    unfold dN
    rw [e, h fD_sorts (by decide), h fD_numbers (by decide)]
  · funext nm
    unfold dS
    rw [e, h fD_sorts (by decide)]
  · intro w
    unfold wfD
    rw [h fD_count (by decide), h fD_used (by decide), h fD_froms (by decide), h fD_sizes (by decide)]
    exact w
def lexL : List Nat := [fM_lexes, fM_lexSize, fM_lexWord, fM_lexLong, fM_lexSort, fM_lexIndex]
theorem RD_m {σ τ τ' : ga_S} (h : ∀ F, F ∈ lexL → τ' F = τ F) (r : RD σ τ) : RD σ τ' := by
  unfold RD eM at r ⊢
  rw [h fM_lexes (by decide), h fM_lexSize (by decide), h fM_lexWord (by decide), h fM_lexLong (by decide), h fM_lexSort (by decide), h fM_lexIndex (by decide)]
  exact r
/-- a name that is cut at a thousand letters means the same -/
theorem fnd_take {σ τ : ga_S} (h : RD σ τ) (L : List Int) : fnd σ (L.take 1000) 0 = fnd σ L 0 := by
  by_cases c : L.length ≤ 1000
  · rw [List.take_of_length_le c]
  · have no : ∀ M : List Int, 1000 ≤ M.length → fnd σ M 0 = -1 := by
      intro M hM
      rcases fnd_r (σ := σ) (nm := M) (Int.le_refl 0) with e | e
      · exact e
      · exfalso
        have lv : live σ (fnd σ M 0) := ⟨e.1, e.2.1, e.2.2.1⟩
        have s := (h.2.2.2.2.2.2.2 _ lv).2.2.2.2.2
        have s0 := (h.1.2.2.2.2 _ e.1 e.2.1).2.1
        have l : ((ent σ (fnd σ M 0)).length : Int) = σ fD_sizes 0 (fnd σ M 0) := by
          unfold ent
          rw [List.length_map, rg_len, if_pos s0]
          omega
        rw [e.2.2.2] at l
        omega
    rw [no (L.take 1000) (by rw [List.length_take]; omega), no L (by omega)]
theorem dN_take {σ τ : ga_S} (h : RD σ τ) (L : List Int) : dN σ (L.take 1000) = dN σ L ∧ dS σ (L.take 1000) = dS σ L := by
  refine ⟨?_, ?_⟩
  · funext s
    unfold dN
    rw [fnd_take h]
  · unfold dS
    rw [fnd_take h]
/-! the world, as far as checks ask it -/
def WKk (σ τ : ga_S) : Prop := FO (σ fW_parents 0) (σ fW_kinds 0 0) ∧ 5 ≤ σ fW_kinds 0 0 ∧ τ fM_kinds 0 0 = σ fW_kinds 0 0 ∧ (∀ k, 0 ≤ k → k < σ fW_kinds 0 0 → τ fM_above 0 k = σ fW_parents 0 k) ∧ σ fW_parents 0 0 = -1 ∧ σ fW_parents 0 1 = -1 ∧ σ fW_parents 0 2 = 0 ∧ σ fW_parents 0 3 = 0 ∧ σ fW_parents 0 4 = 0
def WKo (σ τ : ga_S) : Prop := 1 ≤ σ fW_objects 0 0 ∧ σ fW_objects 0 0 ≤ 24 ∧ τ fM_objects 0 0 = σ fW_objects 0 0 ∧ (∀ o, 0 ≤ o → o < σ fW_objects 0 0 → 0 ≤ σ fW_kindOf 0 o ∧ σ fW_kindOf 0 o < σ fW_kinds 0 0 ∧ τ fM_kindOf 0 o = σ fW_kindOf 0 o)
def WKa (σ τ : ga_S) : Prop := 2 ≤ σ fW_adjectives 0 0 ∧ σ fW_adjectives 0 0 ≤ 24 ∧ τ fM_adjectives 0 0 = σ fW_adjectives 0 0 ∧ (∀ a, 0 ≤ a → a < σ fW_adjectives 0 0 → (0 ≤ σ fW_adjectiveKinds 0 a ∧ σ fW_adjectiveKinds 0 a < σ fW_kinds 0 0 ∧ τ fM_adjectiveKind 0 a = σ fW_adjectiveKinds 0 a) ∧
  ((σ fW_contraries 0 a = -1 ∧ τ fM_contrary 0 a = -1 ∧ 1 ≤ τ fM_definedTests 0 a ∧ τ fM_definedTests 0 a ≤ 6) ∨ (0 ≤ σ fW_contraries 0 a ∧ σ fW_contraries 0 a < σ fW_adjectives 0 0 ∧ σ fW_contraries 0 a ≠ a ∧ σ fW_contraries 0 (σ fW_contraries 0 a) = a ∧ σ fW_adjectiveKinds 0 (σ fW_contraries 0 a) = σ fW_adjectiveKinds 0 a ∧ τ fM_contrary 0 a = σ fW_contraries 0 a ∧ τ fM_definedTests 0 a = 0)))
def cntV (σ : ga_S) (t : Int) : Int := (((rg 0 (σ fW_values 0 0)).filter (fun v => decide (σ fW_valueTypes 0 v = t))).length : Int)
def WKt (σ τ : ga_S) : Prop := 2 ≤ σ fW_types 0 0 ∧ σ fW_types 0 0 ≤ 8 ∧ τ fM_types 0 0 = σ fW_types 0 0 ∧ (∀ t, 0 ≤ t → t < σ fW_types 0 0 → σ fW_typeValues 0 t = cntV σ t)
def WKv (σ τ : ga_S) : Prop := 0 ≤ σ fW_values 0 0 ∧ σ fW_values 0 0 ≤ 64 ∧ τ fM_values 0 0 = σ fW_values 0 0 ∧ (∀ v, 0 ≤ v → v < σ fW_values 0 0 → 2 ≤ σ fW_valueTypes 0 v ∧ σ fW_valueTypes 0 v < σ fW_types 0 0 ∧ τ fM_valueType 0 v = σ fW_valueTypes 0 v)
def WKp (σ τ : ga_S) : Prop := 1 ≤ σ fW_properties 0 0 ∧ σ fW_properties 0 0 ≤ 12 ∧ τ fM_properties 0 0 = σ fW_properties 0 0 ∧ (∀ p, 0 ≤ p → p < σ fW_properties 0 0 → 0 ≤ σ fW_propertyTypes 0 p ∧ σ fW_propertyTypes 0 p < σ fW_types 0 0 ∧ τ fM_propertyType 0 p = σ fW_propertyTypes 0 p) ∧ (∀ k p, 0 ≤ k → k < σ fW_kinds 0 0 → 0 ≤ p → p < σ fW_properties 0 0 → τ fM_kindHas 0 (12 * k + p) = b2i (bitI (σ fW_propertyKinds 0 p) k))
def WKr (σ τ : ga_S) : Prop := 0 ≤ σ fW_relations 0 0 ∧ σ fW_relations 0 0 ≤ 6 ∧ τ fM_relations 0 0 = σ fW_relations 0 0 ∧ (∀ r, 0 ≤ r → r < σ fW_relations 0 0 → (0 ≤ σ fW_relationA 0 r ∧ σ fW_relationA 0 r < σ fW_kinds 0 0 ∧ τ fM_relates 0 r = σ fW_relationA 0 r) ∧ (0 ≤ σ fW_relationB 0 r ∧ σ fW_relationB 0 r < σ fW_kinds 0 0 ∧ τ fM_relatesTo 0 r = σ fW_relationB 0 r))
def WKb (σ τ : ga_S) : Prop := 0 ≤ σ fW_verbs 0 0 ∧ σ fW_verbs 0 0 ≤ 8 ∧ τ fM_verbs 0 0 = σ fW_verbs 0 0 ∧ (∀ v, 0 ≤ v → v < σ fW_verbs 0 0 → 0 ≤ σ fW_verbRelations 0 v ∧ σ fW_verbRelations 0 v < σ fW_relations 0 0 ∧ τ fM_verbRelation 0 v = σ fW_verbRelations 0 v)
def WKc (σ τ : ga_S) : Prop := 5 ≤ σ fW_actions 0 0 ∧ σ fW_actions 0 0 ≤ 12 ∧ τ fM_actions 0 0 = σ fW_actions 0 0 ∧ (∀ a, 0 ≤ a → a < σ fW_actions 0 0 → -2 ≤ σ fW_actionKinds 0 a ∧ σ fW_actionKinds 0 a < σ fW_kinds 0 0 ∧ τ fM_actionKind 0 a = σ fW_actionKinds 0 a)
/-- how many there are of a sort -/
def mxN (σ : ga_S) (s : Int) : Int := if s = 0 then σ fW_kinds 0 0 else if s = 1 then σ fW_types 0 0 else if s = 2 then σ fW_objects 0 0 else if s = 3 then σ fW_adjectives 0 0 else if s = 4 then σ fW_values 0 0 else if s = 5 then σ fW_properties 0 0 else if s = 6 then σ fW_relations 0 0 else if s = 7 then σ fW_verbs 0 0 else if s = 8 then σ fW_actions 0 0 else if s = 9 then 6 else if s = 12 then σ fW_verbs 0 0 else 200
def WKd (σ : ga_S) : Prop := ∀ k, live σ k → σ fD_numbers 0 k < mxN σ (σ fD_sorts 0 k) ∧ (σ fD_sorts 0 k = 11 → σ fD_numbers 0 k < σ fW_kinds 0 0 ∨ (100 ≤ σ fD_numbers 0 k ∧ σ fD_numbers 0 k < 100 + σ fW_types 0 0))
/-- a word of twelve letters with an s is told only where that word is -/
def WKl (σ : ga_S) : Prop := ∀ V : List (List Int), wsW V → lastL V = 12 → fnd σ (jn V ++ [115]) 0 ≠ -1 → fnd σ (jn V) 0 ≠ -1 ∧ σ fD_sorts 0 (fnd σ (jn V) 0) ≠ 11
def WK (σ τ : ga_S) : Prop := WKk σ τ ∧ WKo σ τ ∧ WKa σ τ ∧ WKt σ τ ∧ WKv σ τ ∧ WKp σ τ ∧ WKr σ τ ∧ WKb σ τ ∧ WKc σ τ ∧ WKd σ ∧ WKl σ
/-- what checks may ask: tokens, words, world -/
def E0 (σ τ : ga_S) (f : Int) (N : Nat) : Prop := ENV σ τ f N ∧ TOK σ τ f N ∧ RD σ τ ∧ WK σ τ
theorem e0_k {σ τ : ga_S} {f : Int} {N : Nat} (E : E0 σ τ f N) : WKk σ τ := E.2.2.2.1
theorem e0_o {σ τ : ga_S} {f : Int} {N : Nat} (E : E0 σ τ f N) : WKo σ τ := E.2.2.2.2.1
theorem e0_a {σ τ : ga_S} {f : Int} {N : Nat} (E : E0 σ τ f N) : WKa σ τ := E.2.2.2.2.2.1
theorem e0_t {σ τ : ga_S} {f : Int} {N : Nat} (E : E0 σ τ f N) : WKt σ τ := E.2.2.2.2.2.2.1
theorem e0_v {σ τ : ga_S} {f : Int} {N : Nat} (E : E0 σ τ f N) : WKv σ τ := E.2.2.2.2.2.2.2.1
theorem e0_p {σ τ : ga_S} {f : Int} {N : Nat} (E : E0 σ τ f N) : WKp σ τ := E.2.2.2.2.2.2.2.2.1
theorem e0_r {σ τ : ga_S} {f : Int} {N : Nat} (E : E0 σ τ f N) : WKr σ τ := E.2.2.2.2.2.2.2.2.2.1
theorem e0_b {σ τ : ga_S} {f : Int} {N : Nat} (E : E0 σ τ f N) : WKb σ τ := E.2.2.2.2.2.2.2.2.2.2.1
theorem e0_c {σ τ : ga_S} {f : Int} {N : Nat} (E : E0 σ τ f N) : WKc σ τ := E.2.2.2.2.2.2.2.2.2.2.2.1
theorem e0_d {σ τ : ga_S} {f : Int} {N : Nat} (E : E0 σ τ f N) : WKd σ := E.2.2.2.2.2.2.2.2.2.2.2.2.1
theorem e0_l {σ τ : ga_S} {f : Int} {N : Nat} (E : E0 σ τ f N) : WKl σ := E.2.2.2.2.2.2.2.2.2.2.2.2.2
theorem dN_rg {σ τ : ga_S} (h : RD σ τ) (w : WKd σ) (nm : List Int) (s : Int) : dN σ nm s = -1 ∨ (0 ≤ dN σ nm s ∧ dN σ nm s < mxN σ s ∧ dN σ nm s < 200) := by
  unfold dN
  by_cases c : fnd σ nm 0 = -1 ∨ ¬ σ fD_sorts 0 (fnd σ nm 0) = s
  · rw [if_pos c]; exact Or.inl rfl
  · rw [if_neg c]
    have c1 : fnd σ nm 0 ≠ -1 := fun z => c (Or.inl z)
    have c2 : σ fD_sorts 0 (fnd σ nm 0) = s := Classical.byContradiction fun z => c (Or.inr z)
    have f := (fnd_r (σ := σ) (nm := nm) (Int.le_refl 0)).resolve_left c1
    have lv : live σ (fnd σ nm 0) := ⟨f.1, f.2.1, f.2.2.1⟩
    have a := h.2.2.2.2.2.2.2 _ lv
    have b := (w _ lv).1
    rw [c2] at b
    exact Or.inr ⟨a.2.2.2.1, b, a.2.2.2.2.1⟩
/-! what a check of the component may change -/
def tk1 : List Nat := [fT_places, fT_lengths, fT_wrong, fT_kinds, fT_count]
def ckC : List Nat := [fD_spelled, fD_size, fT_places, fT_lengths, fT_wrong, fT_kinds, fT_count, fR_fault, fR_where, fR_rank, fR_p, fR_bad, fR_runs, fR_runFrom, fR_runTo, fR_thingFrom, fR_thingTo, fR_isNot, fR_form, fR_propertyFrom, fR_propertyTo, fR_behindFrom, fR_placeSort, fR_placeFrom, fR_placeTo, fR_whatAt, fR_itKind, fR_nounKind, fR_newNames, fR_newFrom, fR_newTo, fR_foundAdjective, fR_foundValue, fR_foundProperty, fR_describedKind, fR_described, fR_describedWhich, fR_describedValue, fR_cuts, fR_actionFound, fR_objectFound, fR_kind0, fR_object0, fR_readings, fR_isDescribed, fR_isTyped, fR_isAdjectival, fR_rule, fR_before, fR_behind, fR_verbAt, fR_commandKind, fR_isDirection, fR_commandSlot, fR_commandCount, fR_commandFrom, fR_commandTo, fR_nameFrom, fQ_sort, fQ_action, fQ_object, fQ_kind, fQ_adjectives, fQ_which, fQ_values, fQ_tests, fQ_phrases, fS_what, fS_not, fS_thing, fS_other, fS_which, fS_value, fS_length]
def stL : List Nat := [fS_what, fS_not, fS_thing, fS_other, fS_which, fS_value, fS_length]
/-- the other steps stay -/
def sKp (s : Int) (σ σ' : ga_S) : Prop := ∀ F, F ∈ stL → ∀ n, n ≠ s → σ' F n = σ F n
theorem sKp_t {s : Int} {σ σ1 σ2 : ga_S} (a : sKp s σ σ1) (b : sKp s σ1 σ2) : sKp s σ σ2 := fun F h n hn => (b F h n hn).trans (a F h n hn)
theorem sKp_r (s : Int) (σ : ga_S) : sKp s σ σ := fun _ _ _ _ => rfl
theorem sKp_f {s : Int} {σ σ' : ga_S} {L : List Nat} (h : fr L σ σ') (hL : stL.all (fun F => !(L.contains F)) = true) : sKp s σ σ' := fun F hF n _ => by rw [fr_no h hL hF]
theorem sKp_u (s : Int) (σ : ga_S) (F : Nat) (i v : Int) : sKp s σ (ga_up σ F s i v) := fun F' _ n hn => by
  by_cases c : F' = F
  · rw [c, up_n hn]
  · rw [up_F c]
def quL : List Nat := [fQ_sort, fQ_action, fQ_object, fQ_kind, fQ_adjectives, fQ_which, fQ_values, fQ_tests, fQ_phrases]
/-- the steps that a check may write: the draft's and the reader's own -/
def inD (σ0 : ga_S) (s : Int) : Prop := s = 686 ∨ (14 * σ0 fR_draft 0 0 ≤ s ∧ s < 14 * σ0 fR_draft 0 0 + 14)
def KC (σ0 σ : ga_S) : Prop := fr ckC σ0 σ ∧ (∀ F, F ∈ tk1 → σ F 0 = σ0 F 0) ∧ (∀ F, F ∈ stL → ∀ n, ¬ inD σ0 n → σ F n = σ0 F n) ∧ (∀ F, F ∈ quL → ∀ n, n ≠ σ0 fR_draft 0 0 → σ F n = σ0 F n)
theorem KC_f {σ0 σ σ' : ga_S} {L : List Nat} (K : KC σ0 σ) (h : fr L σ σ') (hL : ∀ F, F ∈ L → F ∈ ckC ∧ F ∉ tk1 ∧ F ∉ stL ∧ F ∉ quL) : KC σ0 σ' := ⟨fr_trans K.1 (fr_sub h (fun F hF => (hL F hF).1)), fun F hF => by rw [h F (fun z => (hL F z).2.1 hF)]; exact K.2.1 F hF, fun F hF n hn => by rw [h F (fun z => (hL F z).2.2.1 hF)]; exact K.2.2.1 F hF n hn, fun F hF n hn => by rw [h F (fun z => (hL F z).2.2.2 hF)]; exact K.2.2.2 F hF n hn⟩
theorem KC_s {σ0 σ σ' : ga_S} {L : List Nat} {s : Int} (K : KC σ0 σ) (h : fr L σ σ') (hL : ∀ F, F ∈ L → F ∈ ckC ∧ F ∉ tk1 ∧ F ∉ quL) (hk : sKp s σ σ') (hs : inD σ0 s) : KC σ0 σ' := ⟨fr_trans K.1 (fr_sub h (fun F hF => (hL F hF).1)), fun F hF => by rw [h F (fun z => (hL F z).2.1 hF)]; exact K.2.1 F hF, fun F hF n hn => (hk F hF n (fun z => hn (by rw [z]; exact hs))).trans (K.2.2.1 F hF n hn), fun F hF n hn => by rw [h F (fun z => (hL F z).2.2 hF)]; exact K.2.2.2 F hF n hn⟩
theorem KC_r (σ : ga_S) : KC σ σ := ⟨fr_refl _ _, fun _ _ => rfl, fun _ _ _ _ => rfl, fun _ _ _ _ => rfl⟩
theorem KC_dic {σ0 σ : ga_S} (K : KC σ0 σ) : ∀ F, F ∈ dicL → σ F = σ0 F := fun F hF => K.1 F (mem_no (L := dicL) (by decide) F hF)
def ckM : List Nat := [fM_bestRank, fM_bestPlace, fM_bestFault, fM_newRun, fM_news, fM_readings, fM_readKind, fM_readAdjective, fM_readCount, fM_foundAdjective, fM_chunk, fM_itKind, fM_nounKind, fM_qForm, fM_qNot, fM_qThing, fM_qProperty, fM_qWhat, fM_qLong, fM_qOther, fM_qPhrase, fM_qTest, fM_tried, fM_triedObject, fM_ruleSort, fM_ruleAction, fM_ruleObject, fM_ruleKind, fM_ruleAdjectives, fM_ruleAdjective, fM_ruleFrom, fM_ruleTests, fM_rulePhrase, fM_rulePhrases, fM_how, fM_aheadObjects, fM_aheadCount, fM_behindObjects, fM_behindCount, fM_saidRelation, fM_spare, fM_slotWord, fM_slotWords, fM_newSize, fM_newWord, fM_newKind, fM_matches, fM_isDry, fM_nounObject, fM_inside, fM_insides]
def KM (τ0 τ : ga_S) : Prop := fr ckM τ0 τ
theorem KM_f {τ0 τ τ' : ga_S} {L : List Nat} (K : KM τ0 τ) (h : fr L τ τ') (hL : ∀ F, F ∈ L → F ∈ ckM) : KM τ0 τ' := fr_trans K (fr_sub h hL)
theorem KM_lex {τ0 τ : ga_S} (K : KM τ0 τ) : ∀ F, F ∈ lexL → τ F = τ0 F := fun F hF => K F (mem_no (L := lexL) (by decide) F hF)
/-! notes: a code by place and rank; the least one counts -/
def noN : Int := 1000000
def cd (σ : ga_S) (t r : Int) : Int := σ fT_places 0 t * 8 + r
def fOf (r : Int) : Int := if r = 0 then 9 else if r = 1 then 3 else if r = 2 then 4 else if r = 3 then 7 else 8
def FT (σ : ga_S) (c : Int) : Prop := (c = 1000000 ∧ σ fR_fault 0 0 = 0) ∨ (c < 1000000 ∧ 0 ≤ σ fR_rank 0 0 ∧ σ fR_rank 0 0 ≤ 4 ∧ c = σ fR_where 0 0 * 8 + σ fR_rank 0 0 ∧ σ fR_fault 0 0 = fOf (σ fR_rank 0 0))
def GT (τ : ga_S) (c : Int) : Prop := (c = 1000000 ∧ τ fM_bestFault 0 0 = 0) ∨ (c < 1000000 ∧ 0 ≤ τ fM_bestRank 0 0 ∧ τ fM_bestRank 0 0 ≤ 4 ∧ c = τ fM_bestPlace 0 0 * 8 + τ fM_bestRank 0 0 ∧ τ fM_bestFault 0 0 = fOf (τ fM_bestRank 0 0))
def ntL : List Nat := [fR_fault, fR_where, fR_rank]
def ntM : List Nat := [fM_bestFault, fM_bestPlace, fM_bestRank]
theorem fOf_0 (r : Int) : fOf r ≠ 0 := by
  unfold fOf
  repeat' split
  all_goals decide
theorem cd_r {σ τ : ga_S} {f : Int} {N : Nat} (E : TOK σ τ f N) {t r : Int} (ht : 0 ≤ t ∧ t ≤ N) (hr : 0 ≤ r ∧ r ≤ 4) : 0 ≤ cd σ t r ∧ cd σ t r < 1000000 := by
  have a := E.2.1 t ht.1 ht.2
  have b := E.1.1
  unfold cd
  omega
theorem FT_c {σ σ' : ga_S} {c : Int} (h : FT σ c) (h1 : σ' fR_fault = σ fR_fault) (h2 : σ' fR_where = σ fR_where) (h3 : σ' fR_rank = σ fR_rank) : FT σ' c := by
  unfold FT at h ⊢
  rw [h1, h2, h3]
  exact h
theorem FT_f {σ σ' : ga_S} {c : Int} {L : List Nat} (h : FT σ c) (hf : fr L σ σ') (hL : fR_fault ∉ L ∧ fR_where ∉ L ∧ fR_rank ∉ L) : FT σ' c := FT_c h (hf _ hL.1) (hf _ hL.2.1) (hf _ hL.2.2)
theorem GT_f {τ τ' : ga_S} {c : Int} {L : List Nat} (h : GT τ c) (hf : fr L τ τ') (hL : fM_bestFault ∉ L ∧ fM_bestPlace ∉ L ∧ fM_bestRank ∉ L) : GT τ' c := by
  unfold GT at h ⊢
  rw [hf _ hL.1, hf _ hL.2.1, hf _ hL.2.2]
  exact h
theorem FT_le {σ : ga_S} {c : Int} (h : FT σ c) : c ≤ 1000000 := by
  rcases h with h | h <;> omega
theorem GT_le {τ : ga_S} {c : Int} (h : GT τ c) : c ≤ 1000000 := by
  rcases h with h | h <;> omega
theorem k_note {σ0 τ0 σ : ga_S} {f : Int} {N : Nat} (E : TOK σ0 τ0 f N) (hN : (N : Int) ≤ 5000) (K : KC σ0 σ) {c : Int} (hF : FT σ c) {t r why : Int} (ht : 0 ≤ t ∧ t ≤ N) (hr : 0 ≤ r ∧ r ≤ 4) (hw : why = fOf r) {d : Nat} (hd : 1 ≤ d) : ∃ σ', c_r_note d σ why t = some (0, σ') ∧ fr ntL σ σ' ∧ FT σ' (min c (cd σ0 t r)) := by
  obtain ⟨d, rfl⟩ : ∃ e, d = e + 1 := ⟨d - 1, by omega⟩
  have hc := cd_r E ht hr
  have pl : σ fT_places 0 t = σ0 fT_places 0 t := by rw [K.2.1 _ (by decide)]
  obtain ⟨x, ex⟩ : ∃ x, x = σ0 fT_places 0 t := ⟨_, rfl⟩
  have hx : cd σ0 t r = x * 8 + r := by unfold cd; rw [ex]
  rw [e_r_note, ck_ok _ (by omega), pl, ← ex, hx]
  rw [hx] at hc
  have e1 : (if why = 9 then r_note_49 d σ why x 0 else if why = 3 then r_note_49 d σ why x 1 else if why = 4 then r_note_49 d σ why x 2 else if why = 7 then r_note_49 d σ why x 3 else r_note_49 d σ why x 4) = r_note_49 d σ why x r := by
    have : r = 0 ∨ r = 1 ∨ r = 2 ∨ r = 3 ∨ r = 4 := by omega
    rcases this with e | e | e | e | e
    · have hw : why = 9 := by rw [hw, e]; decide
      rw [if_pos hw, e]
    · have hw : why = 3 := by rw [hw, e]; decide
      rw [if_neg (by omega), if_pos hw, e]
    · have hw : why = 4 := by rw [hw, e]; decide
      rw [if_neg (by omega), if_neg (by omega), if_pos hw, e]
    · have hw : why = 7 := by rw [hw, e]; decide
      rw [if_neg (by omega), if_neg (by omega), if_neg (by omega), if_pos hw, e]
    · have hw : why = 8 := by rw [hw, e]; decide
      rw [if_neg (by omega), if_neg (by omega), if_neg (by omega), if_neg (by omega), e]
  rw [e1]
  have wr : x * 8 + r ≤ c → ∃ σ', r_note_83 d σ why x r = some (0, σ') ∧ fr ntL σ σ' ∧ FT σ' (min c (x * 8 + r)) := by
    intro hle
    refine ⟨_, e_r_note_83 d σ why x r, fr_trans (fr_trans (fr_u (by decide)) (fr_u (by decide))) (fr_u (by decide)), ?_⟩
    have em : min c (x * 8 + r) = x * 8 + r := by omega
    rw [em]
    refine Or.inr ⟨by omega, ?_, ?_, ?_, ?_⟩
    · rw [up_eq]; exact hr.1
    · rw [up_eq]; exact hr.2
    · rw [up_eq, up_F (by decide), up_eq]
    · rw [up_eq, up_F (by decide), up_F (by decide), up_eq]; exact hw
  have st : c ≤ x * 8 + r → ∃ σ', some ((0 : Int), σ) = some (0, σ') ∧ fr ntL σ σ' ∧ FT σ' (min c (x * 8 + r)) := by
    intro hle
    refine ⟨σ, rfl, fr_refl _ _, ?_⟩
    rw [show min c (x * 8 + r) = c by omega]
    exact hF
  rw [e_r_note_49]
  rcases hF with h | h
  · rw [if_pos h.2]; exact wr (by omega)
  · rw [if_neg (by rw [h.2.2.2.2]; exact fOf_0 _)]
    by_cases c1 : x < σ fR_where 0 0
    · rw [if_pos c1]; exact wr (by omega)
    · rw [if_neg c1]
      by_cases c2 : x = σ fR_where 0 0
      · rw [if_pos c2]
        by_cases c3 : r < σ fR_rank 0 0
        · rw [if_pos c3]; exact wr (by omega)
        · rw [if_neg c3]; exact st (by omega)
      · rw [if_neg c2]; exact st (by omega)
theorem s_m_rank {τ : ga_S} {d : Nat} (hd : 1 ≤ d) {r : Int} (hr : 0 ≤ r ∧ r ≤ 4) : c_m_rank d τ (fOf r) = some (r, τ) := by
  obtain ⟨d, rfl⟩ : ∃ e, d = e + 1 := ⟨d - 1, by omega⟩
  rw [e_m_rank]
  have : r = 0 ∨ r = 1 ∨ r = 2 ∨ r = 3 ∨ r = 4 := by omega
  rcases this with e | e | e | e | e <;> rw [e] <;> rfl
theorem m_note {σ0 τ0 τ : ga_S} {f : Int} {N : Nat} (E : TOK σ0 τ0 f N) (hf : 0 ≤ f ∧ f + N ≤ 5001) (K : KM τ0 τ) {c : Int} (hF : GT τ c) {t t' r why : Int} (ht : 0 ≤ t ∧ t ≤ N) (he : t' = f + t) (hr : 0 ≤ r ∧ r ≤ 4) (hw : why = fOf r) {d : Nat} (hd : 2 ≤ d) : ∃ τ', c_m_note d τ why t' = some (0, τ') ∧ fr ntM τ τ' ∧ GT τ' (min c (cd σ0 t r)) := by
  obtain ⟨d, rfl⟩ : ∃ e, d = e + 1 := ⟨d - 1, by omega⟩
  have hc := cd_r E ht hr
  have pl : τ fM_place 0 t' = σ0 fT_places 0 t := by rw [K _ (by decide), he]; exact (E.2.1 t ht.1 ht.2).2.2.2
  obtain ⟨x, ex⟩ : ∃ x, x = σ0 fT_places 0 t := ⟨_, rfl⟩
  have hx : cd σ0 t r = x * 8 + r := by unfold cd; rw [ex]
  rw [e_m_note, ck_ok _ (by omega), pl, ← ex, hx]
  rw [hx] at hc
  have wr : x * 8 + r ≤ c → ∃ τ', m_note_41 d τ why x = some (0, τ') ∧ fr ntM τ τ' ∧ GT τ' (min c (x * 8 + r)) := by
    intro hle
    rw [e_m_note_41, hw, s_m_rank (by omega) hr]
    simp only [Option.bind_some]
    refine ⟨_, rfl, fr_trans (fr_trans (fr_u (by decide)) (fr_u (by decide))) (fr_u (by decide)), ?_⟩
    have em : min c (x * 8 + r) = x * 8 + r := by omega
    rw [em]
    refine Or.inr ⟨by omega, ?_, ?_, ?_, ?_⟩
    · rw [up_eq]; exact hr.1
    · rw [up_eq]; exact hr.2
    · rw [up_eq, up_F (by decide), up_eq]
    · rw [up_eq, up_F (by decide), up_F (by decide), up_eq]
  have st : c ≤ x * 8 + r → ∃ τ', some ((0 : Int), τ) = some (0, τ') ∧ fr ntM τ τ' ∧ GT τ' (min c (x * 8 + r)) := by
    intro hle
    refine ⟨τ, rfl, fr_refl _ _, ?_⟩
    rw [show min c (x * 8 + r) = c by omega]
    exact hF
  rcases hF with h | h
  · rw [if_pos h.2]; exact wr (by omega)
  · rw [if_neg (by rw [h.2.2.2.2]; exact fOf_0 _)]
    by_cases c1 : x < τ fM_bestPlace 0 0
    · rw [if_pos c1]; exact wr (by omega)
    · rw [if_neg c1]
      by_cases c2 : x = τ fM_bestPlace 0 0
      · rw [if_pos c2, hw, s_m_rank (by omega) hr]
        simp only [Option.bind_some]
        rw [← hw]
        by_cases c3 : r < τ fM_bestRank 0 0
        · rw [if_pos c3]; exact wr (by omega)
        · rw [if_neg c3]; exact st (by omega)
      · rw [if_neg c2]; exact st (by omega)
theorem e0_dN {σ τ : ga_S} {f : Int} {N : Nat} (E : E0 σ τ f N) (nm : List Int) (s : Int) : dN σ nm s = -1 ∨ (0 ≤ dN σ nm s ∧ dN σ nm s < mxN σ s ∧ dN σ nm s < 200) := dN_rg E.2.2.1 (e0_d E) nm s

/-! a rule that is good -/
theorem stT_fr {σ0 : ga_S} {ik nk : Int} {now : Bool} {σ σ' τ τ' : ga_S} {s q : Int} {L M : List Nat} (h : stT σ0 ik nk now σ τ s q) (h1 : fr L σ σ') (hL : stL.all (fun F => !(L.contains F)) = true) (h2 : fr M τ τ') (hM : qL.all (fun F => !(M.contains F)) = true) : stT σ0 ik nk now σ' τ' s q := by
  have a : ∀ F, F ∈ stL → σ' F = σ F := fun F hF => fr_no h1 hL hF
  have b : ∀ F, F ∈ qL → τ' F = τ F := fun F hF => fr_no h2 hM hF
  unfold stT at h ⊢
  rw [a fS_not (by decide), a fS_thing (by decide), a fS_what (by decide), a fS_other (by decide), a fS_which (by decide), a fS_value (by decide), a fS_length (by decide), b fM_qNot (by decide), b fM_qThing (by decide), b fM_qForm (by decide), b fM_qOther (by decide), b fM_qProperty (by decide), b fM_qWhat (by decide), b fM_qLong (by decide)]
  exact h
theorem stP_fr {σ0 : ga_S} {ik nk : Int} {σ σ' τ τ' : ga_S} {s q x : Int} {L M : List Nat} (h : stP σ0 ik nk σ τ s q x) (h1 : fr L σ σ') (hL : stL.all (fun F => !(L.contains F)) = true) (h2 : fr M τ τ') (hM : qL.all (fun F => !(M.contains F)) = true) (hX : xL.all (fun F => !(M.contains F)) = true) : stP σ0 ik nk σ' τ' s q x := by
  have a : ∀ F, F ∈ stL → σ' F = σ F := fun F hF => fr_no h1 hL hF
  have b : ∀ F, F ∈ qL → τ' F = τ F := fun F hF => fr_no h2 hM hF
  have c : ∀ F, F ∈ xL → τ' F = τ F := fun F hF => fr_no h2 hX hF
  have eT : stT σ0 ik nk true σ τ s q → stT σ0 ik nk true σ' τ' s q := fun z => stT_fr z h1 hL h2 hM
  obtain ⟨h0, h⟩ := h
  refine ⟨by rw [c fM_qTest (by decide)]; exact h0, ?_⟩
  rw [a fS_thing (by decide), a fS_what (by decide), a fS_other (by decide), a fS_which (by decide), a fS_value (by decide), a fS_length (by decide), b fM_qNot (by decide), b fM_qThing (by decide), b fM_qOther (by decide), b fM_qProperty (by decide), b fM_qWhat (by decide), b fM_qLong (by decide), c fM_qPhrase (by decide)]
  have eN : nwP σ s → nwP σ' s := fun z => by unfold nwP at z ⊢; rw [a fS_what (by decide)]; exact z
  rcases h with h | h | h | h | h | h
  · exact Or.inl h
  · exact Or.inr (Or.inl ⟨h.1, eT h.2.1, eN h.2.2⟩)
  · exact Or.inr (Or.inr (Or.inl h))
  · exact Or.inr (Or.inr (Or.inr (Or.inl h)))
  · exact Or.inr (Or.inr (Or.inr (Or.inr (Or.inl h))))
  · exact Or.inr (Or.inr (Or.inr (Or.inr (Or.inr h))))
def hqL : List Nat := [fQ_action, fQ_object, fQ_kind, fQ_adjectives, fQ_which, fQ_values]
def hmL : List Nat := [fM_ruleAction, fM_ruleObject, fM_ruleKind, fM_ruleAdjectives, fM_ruleAdjective]
theorem hdG_fr {σ0 : ga_S} {nk : Int} {σ σ' τ τ' : ga_S} {n l : Int} {L M : List Nat} (h : hdG σ0 nk σ τ n l) (h1 : fr L σ σ') (hL : hqL.all (fun F => !(L.contains F)) = true) (h2 : fr M τ τ') (hM : hmL.all (fun F => !(M.contains F)) = true) : hdG σ0 nk σ' τ' n l := by
  have a : ∀ F, F ∈ hqL → σ' F = σ F := fun F hF => fr_no h1 hL hF
  have b : ∀ F, F ∈ hmL → τ' F = τ F := fun F hF => fr_no h2 hM hF
  unfold hdG at h ⊢
  rw [a fQ_action (by decide), a fQ_object (by decide), a fQ_kind (by decide), a fQ_adjectives (by decide), a fQ_which (by decide), a fQ_values (by decide), b fM_ruleAction (by decide), b fM_ruleObject (by decide), b fM_ruleKind (by decide), b fM_ruleAdjectives (by decide), b fM_ruleAdjective (by decide)]
  exact h
/-- no head -/
def hdZ (σ τ : ga_S) (n l : Int) : Prop := (τ fM_ruleAction 0 l = -1 ∧ τ fM_ruleObject 0 l = -1 ∧ τ fM_ruleKind 0 l = -1 ∧ τ fM_ruleAdjectives 0 l = 0) ∧ σ fQ_action n 0 = -1 ∧ σ fQ_object n 0 = -1 ∧ σ fQ_kind n 0 = -1 ∧ σ fQ_adjectives n 0 = 0
/-- rule n of the component is rule l of the model -/
def ruG (σ0 : ga_S) (nk : Int) (σ τ : ga_S) (n l : Int) : Prop :=
  (τ fM_ruleSort 0 l = σ fQ_sort n 0 ∧ 0 ≤ σ fQ_sort n 0 ∧ σ fQ_sort n 0 ≤ 3) ∧
  ((σ fQ_sort n 0 = 3 ∧ nk = -1 ∧ hdZ σ τ n l) ∨ (σ fQ_sort n 0 ≠ 3 ∧ hdG σ0 nk σ τ n l)) ∧
  (τ fM_ruleTests 0 l = σ fQ_tests n 0 ∧ 0 ≤ σ fQ_tests n 0 ∧ σ fQ_tests n 0 ≤ 6) ∧ (τ fM_rulePhrases 0 l = σ fQ_phrases n 0 ∧ 1 ≤ σ fQ_phrases n 0 ∧ σ fQ_phrases n 0 ≤ 8) ∧
  (0 ≤ τ fM_ruleFrom 0 l ∧ τ fM_ruleFrom 0 l + σ fQ_tests n 0 + σ fQ_phrases n 0 ≤ τ fM_tests 0 0) ∧ (0 ≤ τ fM_rulePhrase 0 l ∧ τ fM_rulePhrase 0 l + σ fQ_phrases n 0 ≤ τ fM_phrases 0 0) ∧
  (∀ k, 0 ≤ k → k < σ fQ_tests n 0 → stT σ0 (-1) nk false σ τ (14 * n + k) (τ fM_ruleFrom 0 l + k)) ∧
  (∀ k, 0 ≤ k → k < σ fQ_phrases n 0 → stP σ0 (-1) nk σ τ (14 * n + k + 6) (τ fM_ruleFrom 0 l + σ fQ_tests n 0 + k) (τ fM_rulePhrase 0 l + k))
def ruL9 : List Nat := [fM_ruleAction, fM_ruleObject, fM_ruleKind, fM_ruleAdjectives, fM_ruleSort, fM_ruleFrom, fM_ruleTests, fM_rulePhrase, fM_rulePhrases]
section
variable {σ0 τ0 : ga_S} {f : Int} {N : Nat}
/-- what a head notes is ahead of all behind it -/
theorem heC_lt (E : E0 σ0 τ0 f N) {two : Bool} {x0 y0 x1 y1 t : Int} (hB0 : frB σ0 N x0 y0) (h0 : x0 < y0) (hB1 : two = true → frB σ0 N x1 y1 ∧ x1 < y1 ∧ y1 ≤ t) (ht : y0 ≤ t) (htN : t ≤ N) : heC σ0 two x0 y0 x1 y1 = 1000000 ∨ heC σ0 two x0 y0 x1 y1 ≤ cd σ0 t 0 := by
  have b0 := hB0.1
  have lt : ∀ x, 0 ≤ x → x < t → ∀ r, 0 ≤ r → r ≤ 4 → cd σ0 x r ≤ cd σ0 t 0 := fun x u1 u2 r u3 u4 => by
    have := cd_lt E.2.1 u1 u2 htN (r := r) (s := 0) (by omega) (by omega)
    omega
  have cn : ∀ x T, 0 ≤ x → x < t → cnC σ0 x T = 1000000 ∨ cnC σ0 x T ≤ cd σ0 t 0 := by
    intro x T u1 u2
    unfold cnC
    by_cases z : T = 1
    · rw [if_pos z]; exact Or.inl rfl
    · rw [if_neg z]
      by_cases y : T = 0
      · rw [if_pos y]; exact Or.inr (lt x u1 u2 2 (by omega) (by omega))
      · rw [if_neg y]; exact Or.inr (lt x u1 u2 3 (by omega) (by omega))
  unfold heC
  cases two with
  | false => rw [if_neg (by decide)]; exact cn x0 _ b0 (by omega)
  | true =>
    obtain ⟨g1, g2, g3⟩ := hB1 rfl
    have b1 := g1.1
    rw [if_pos rfl]
    by_cases z : acX σ0 x0 y0 = -1
    · rw [if_pos z]; exact Or.inr (lt x0 b0 (by omega) 2 (by omega) (by omega))
    · rw [if_neg z]
      by_cases y : hdKd σ0 x0 y0 < 0
      · rw [if_pos y]; exact Or.inr (lt x1 b1 (by omega) 2 (by omega) (by omega))
      · rw [if_neg y]; exact cn x1 _ b1 (by omega)
/-- the head, on both sides, or none -/
theorem hd_both (E : E0 σ0 τ0 f N) (hm : τ0 fM_runs 0 0 ≤ 2600) {σ τ : ga_S} (K : KC σ0 σ) (M : KM τ0 τ) {c : Int} (hF : FT σ c) (hG : GT τ c) (ht : τ0 fM_sort 0 0 = σ0 fR_sort 0 0) (U : ruR σ0 τ0 f N (σ0 fR_sort 0 0)) (hr : σ fR_runs 0 0 = σ0 fR_runs 0 0 ∧ σ fR_runFrom = σ0 fR_runFrom ∧ σ fR_runTo = σ0 fR_runTo) (hd0 : 0 ≤ σ0 fR_draft 0 0) (hru : σ fR_rule 0 0 = σ0 fR_draft 0 0) (hq : σ fQ_object (σ0 fR_draft 0 0) 0 = -1 ∧ σ fQ_kind (σ0 fR_draft 0 0) 0 = -1 ∧ σ fQ_adjectives (σ0 fR_draft 0 0) 0 = 0) (hqa : σ fQ_action (σ0 fR_draft 0 0) 0 = -1) (hnk : σ fR_nounKind 0 0 = -1) {l : Int} (hl : 0 ≤ l ∧ l < 24) {d : Nat} (hd : 14 ≤ d) : ∃ σ' τ' c' nk nk', r_checkRule_78 d σ = r_checkRule_91 d σ' ∧ c_m_actingMeant d τ l = some (0, τ') ∧ KC σ0 σ' ∧ KM τ0 τ' ∧ fr heF σ σ' ∧ fr heN τ τ' ∧ roK l τ τ' ∧ FT σ' c' ∧ GT τ' c' ∧ c' ≤ c ∧ σ' fR_nounKind 0 0 = nk ∧ τ' fM_nounKind 0 0 = nk' ∧ kO σ0 nk ∧ kO σ0 nk' ∧ ((nk = nk') ∨ ((∀ k, 0 ≤ k → k < σ0 fR_tests 0 0 → c' ≤ cd σ0 (σ0 fR_testFrom 0 k) 0) ∧ ∀ k, 0 ≤ k → k < σ0 fR_phrases 0 0 → c' ≤ cd σ0 (σ0 fR_phraseFrom 0 k) 0)) ∧ (c' = 1000000 → (σ0 fR_sort 0 0 = 6 ∧ nk = -1 ∧ hdZ σ' τ' (σ0 fR_draft 0 0) l) ∨ (σ0 fR_sort 0 0 ≠ 6 ∧ hdG σ0 nk σ' τ' (σ0 fR_draft 0 0) l)) := by
  have sf : σ fR_sort 0 0 = σ0 fR_sort 0 0 := by rw [K.1 _ (by decide)]
  obtain ⟨H, T, P, O, oc⟩ := U
  rcases H with ⟨s6, r0⟩ | ⟨s6, r1, R0, R1⟩
  · -- no head
    obtain ⟨τ1, e1⟩ : ∃ x, x = ga_up (ga_up (ga_up (ga_up (ga_up τ fM_ruleAction 0 l (-1)) fM_ruleObject 0 l (-1)) fM_ruleKind 0 l (-1)) fM_ruleAdjectives 0 l 0) fM_nounKind 0 0 (-1) := ⟨_, rfl⟩
    have f1 : fr [fM_ruleAction, fM_ruleObject, fM_ruleKind, fM_ruleAdjectives, fM_nounKind] τ τ1 := by
      rw [e1]
      exact fr_trans (fr_trans (fr_trans (fr_trans (fr_u (by decide)) (fr_u (by decide))) (fr_u (by decide))) (fr_u (by decide))) (fr_u (by decide))
    obtain ⟨d, rfl⟩ : ∃ e, d = e + 1 := ⟨d - 1, by omega⟩
    refine ⟨σ, τ1, c, -1, -1, ?_, ?_, K, KM_f M f1 (by decide), fr_refl _ _, fr_sub f1 (by decide), ?_, hF, GT_f hG f1 (by decide), Int.le_refl _, hnk, by rw [e1, up_eq], Or.inl rfl, Or.inl rfl, Or.inl rfl, fun _ => Or.inl ⟨s6, rfl, ⟨?_, ?_, ?_, ?_⟩, hqa, hq⟩⟩
    · rw [e_r_checkRule_78, sf, if_pos s6]
    · rw [e_m_actingMeant, ck_ok _ hl, ck_ok _ hl, ck_ok _ hl, ck_ok _ hl, M fM_sort (by decide), ht, if_pos s6, e1]
    · rw [e1]
      exact roK_t (roK_t (roK_t (roK_t (roK_u l τ fM_ruleAction (by decide) (-1)) (roK_u l _ fM_ruleObject (by decide) (-1))) (roK_u l _ fM_ruleKind (by decide) (-1))) (roK_u l _ fM_ruleAdjectives (by decide) 0)) (roK_f (fr_u (L := [fM_nounKind]) (by decide)) (by decide))
    · rw [e1, up_F (by decide), up_F (by decide), up_F (by decide), up_F (by decide), up_eq]
    · rw [e1, up_F (by decide), up_F (by decide), up_F (by decide), up_eq]
    · rw [e1, up_F (by decide), up_F (by decide), up_eq]
    · rw [e1, up_F (by decide), up_eq]
  · -- a head
    obtain ⟨two, etwo⟩ : ∃ b : Bool, b = decide (σ0 fR_runs 0 0 = 2) := ⟨_, rfl⟩
    have B0 := rnR_B E.1 R0
    have h0 : σ0 fR_runFrom 0 0 < σ0 fR_runTo 0 0 := R0.2.2.2.2.1
    have hB1 : two = true → frB σ0 N (σ0 fR_runFrom 0 1) (σ0 fR_runTo 0 1) ∧ σ fR_runFrom 0 1 = σ0 fR_runFrom 0 1 ∧ σ fR_runTo 0 1 = σ0 fR_runTo 0 1 := by
      intro z
      rw [z] at etwo
      have e2 := of_decide_eq_true etwo.symm
      rcases R1 with y | y
      · omega
      · exact ⟨rnR_B E.1 y.2.2, by rw [hr.2.1], by rw [hr.2.2]⟩
    have hrun : σ fR_runs 0 0 = if two = true then 2 else 1 := by
      rw [hr.1, etwo]
      rcases R1 with y | y
      · rw [decide_eq_false (by omega), if_neg (by decide)]; exact y.1
      · rw [decide_eq_true y.1, if_pos rfl]; exact y.1
    obtain ⟨σ1, nk, a1, a2, a3, a4, a5, a6, a7⟩ := k_head E K hF two (x1 := σ0 fR_runFrom 0 1) (y1 := σ0 fR_runTo 0 1) hrun B0 h0 ⟨by rw [hr.2.1], by rw [hr.2.2]⟩ hB1 hd0 hru hq hnk (d := d) hd
    obtain ⟨τ1, nk', b1, b2, b3, b4, b5, b6, b7, b8⟩ := m_head E M hG two (x1 := σ0 fR_runFrom 0 1) (y1 := σ0 fR_runTo 0 1) (l := l) (by rw [ht]; exact s6) hl rfl (RU_of E.1 R0 hm) h0 (fun z => by
      rcases R1 with y | y
      · exact y.2
      · rw [z] at etwo
        exact absurd y.1 (of_decide_eq_false etwo.symm)) (fun z => by
      rw [z] at etwo
      have e2 := of_decide_eq_true etwo.symm
      rcases R1 with y | y
      · omega
      · exact ⟨y.2.1, RU_of E.1 y.2.2 hm⟩) (d := d) (by omega)
    have ahead : ∀ t : Int, t ≤ N → (∀ i, 0 ≤ i → i < σ0 fR_runs 0 0 → σ0 fR_runTo 0 i ≤ t) → heC σ0 two (σ0 fR_runFrom 0 0) (σ0 fR_runTo 0 0) (σ0 fR_runFrom 0 1) (σ0 fR_runTo 0 1) = 1000000 ∨ heC σ0 two (σ0 fR_runFrom 0 0) (σ0 fR_runTo 0 0) (σ0 fR_runFrom 0 1) (σ0 fR_runTo 0 1) ≤ cd σ0 t 0 := by
      intro t htN hto
      refine heC_lt E B0 h0 (fun z => ?_) (hto 0 (Int.le_refl _) (by omega)) htN
      rw [z] at etwo
      have e2 := of_decide_eq_true etwo.symm
      rcases R1 with y | y
      · omega
      · exact ⟨rnR_B E.1 y.2.2, y.2.2.2.2.2.2.1, hto 1 (by decide) (by omega)⟩
    obtain ⟨C, eC⟩ : ∃ x, x = heC σ0 two (σ0 fR_runFrom 0 0) (σ0 fR_runTo 0 0) (σ0 fR_runFrom 0 1) (σ0 fR_runTo 0 1) := ⟨_, rfl⟩
    rw [← eC] at a4 a7 b5 b8 ahead
    have le := FT_le hF
    refine ⟨σ1, τ1, min c C, nk, nk', ?_, b1, a2, b2, a3, b3, b4, a4, b5, by omega, a5, b6, a6, b7, ?_, fun z => ?_⟩
    · rw [e_r_checkRule_78, sf, if_neg s6, a1]
      rfl
    · by_cases z : C = 1000000
      · exact Or.inl (he_hdG E (a7 z) (b8 z)).1
      · refine Or.inr ⟨fun k k0 k1 => ?_, fun k k0 k1 => ?_⟩
        · have tb := (T.2.2 k k0 k1).1
          have tl := tb.2.1.1
          have := (ahead (σ0 fR_testFrom 0 k) (by omega) (fun i i0 i1 => (O i i0 i1).1 k k0 k1)).resolve_left z
          omega
        · have pb := (P.2.2 k k0 k1).1
          have tl := pb.2.1.1
          have := (ahead (σ0 fR_phraseFrom 0 k) (by omega) (fun i i0 i1 => (O i i0 i1).2 k k0 k1)).resolve_left z
          omega
    · have zc : C ≥ 1000000 := by omega
      have cz : C = 1000000 := by
        have aN := ahead (N : Int) (Int.le_refl _) (fun i i0 i1 => by
          by_cases i2 : i = 0
          · rw [i2]; exact B0.2.2.1
          · rcases R1 with y | y
            · omega
            · have : i = 1 := by omega
              rw [this]; exact (rnR_B E.1 y.2.2).2.2.1)
        rcases aN with y | y
        · exact y
        · have := cd_r E.2.1 (t := (N : Int)) (r := 0) (by omega) (by omega)
          omega
      exact Or.inr ⟨s6, (he_hdG E (a7 cz) (b8 cz)).2⟩
end

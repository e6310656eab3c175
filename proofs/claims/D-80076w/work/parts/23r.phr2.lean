/-! phrases: rows; the frame of a phrase -/
def pRw (σ τ : ga_S) (f a b i j : Int) : Prop := τ fM_pTest 0 i = j ∧ τ fM_pFirst 0 i = f + a ∧
  ((σ fT_kinds 0 a = 52 ∧ τ fM_pWhat 0 i = 0 ∧ τ fM_tWhat 0 j = f + (a + 1) ∧ σ fT_kinds 0 (a + 1) = 2 ∧ b = a + 2) ∨
   (σ fT_kinds 0 a = 53 ∧ τ fM_pWhat 0 i = 1 ∧ tRw σ τ f (a + 1) b j) ∨
   (σ fT_kinds 0 a = 54 ∧ τ fM_pWhat 0 i = 2 ∧ thE σ τ f (σ fR_placeFrom 0 0) (σ fR_placeTo 0 0) (τ fM_tThing 0 j) (τ fM_tThingRun 0 j) ∧ thE σ τ f (σ fR_thingFrom 0 0) (σ fR_thingTo 0 0) (τ fM_tOther 0 j) (τ fM_tOtherRun 0 j) ∧ (a ≤ σ fR_placeFrom 0 0 ∧ σ fR_placeTo 0 0 ≤ b) ∧ (a ≤ σ fR_thingFrom 0 0 ∧ σ fR_thingTo 0 0 ≤ b)) ∨
   ((σ fT_kinds 0 a = 55 ∧ τ fM_pWhat 0 i = 3 ∨ σ fT_kinds 0 a = 56 ∧ τ fM_pWhat 0 i = 4) ∧ rnR σ τ f (τ fM_tRun 0 j) (σ fR_propertyFrom 0 0) (σ fR_propertyTo 0 0) ∧ thE σ τ f (σ fR_thingFrom 0 0) (σ fR_thingTo 0 0) (τ fM_tThing 0 j) (τ fM_tThingRun 0 j) ∧ τ fM_tWhat 0 j = f + σ fR_behindFrom 0 0 ∧ σ fT_kinds 0 (σ fR_behindFrom 0 0) = 1 ∧ (a ≤ σ fR_propertyFrom 0 0 ∧ σ fR_propertyTo 0 0 ≤ b) ∧ (a ≤ σ fR_thingFrom 0 0 ∧ σ fR_thingTo 0 0 ≤ b) ∧ (a ≤ σ fR_behindFrom 0 0 ∧ σ fR_behindFrom 0 0 < b)) ∨
   (σ fT_kinds 0 a = 57 ∧ τ fM_pWhat 0 i = 6) ∨
   (σ fT_kinds 0 a = 58 ∧ τ fM_pWhat 0 i = 5 ∧ rnR σ τ f (τ fM_tRun 0 j) (σ fR_propertyFrom 0 0) (σ fR_propertyTo 0 0) ∧ (a ≤ σ fR_propertyFrom 0 0 ∧ σ fR_propertyTo 0 0 ≤ b) ∧ ((σ fR_thingFrom 0 0 = -1 ∧ τ fM_tNot 0 j = 0) ∨ (0 ≤ σ fR_thingFrom 0 0 ∧ τ fM_tNot 0 j = 1 ∧ thE σ τ f (σ fR_thingFrom 0 0) (σ fR_thingTo 0 0) (τ fM_tThing 0 j) (τ fM_tThingRun 0 j) ∧ a ≤ σ fR_thingFrom 0 0 ∧ σ fR_thingTo 0 0 ≤ b))))
theorem pRw_keep {σ τ σ' τ' : ga_S} {f a b i j : Int} (h : pRw σ τ f a b i j) (h1 : fr [fR_p, fR_bad, fR_runs] σ σ') (h2 : fr [fM_at, fM_isBad, fM_badAt, fM_pCount, fM_tCount] τ τ') : pRw σ' τ' f a b i j := by
  unfold pRw tRw tR0 tB thE thR rnR at h ⊢
  rw [h1 fT_kinds (by decide), h1 fR_placeFrom (by decide), h1 fR_placeTo (by decide), h1 fR_thingFrom (by decide), h1 fR_thingTo (by decide), h1 fR_propertyFrom (by decide), h1 fR_propertyTo (by decide), h1 fR_behindFrom (by decide), h1 fR_form (by decide), h1 fR_isNot (by decide), h1 fR_placeSort (by decide), h2 fM_pTest (by decide), h2 fM_pFirst (by decide), h2 fM_pWhat (by decide), h2 fM_tWhat (by decide), h2 fM_tThing (by decide), h2 fM_tThingRun (by decide), h2 fM_tOther (by decide), h2 fM_tOtherRun (by decide), h2 fM_tRun (by decide), h2 fM_tNot (by decide), h2 fM_tForm (by decide), h2 fM_tFirst (by decide), h2 fM_tEnd (by decide), h2 fM_tWay (by decide), h2 fM_runs (by decide), h2 fM_runFrom (by decide), h2 fM_runSize (by decide)]
  exact h
def phM : List Nat := fM_pFirst :: fM_pTest :: fM_pWhat :: fM_pCount :: tsM
def pKeep (τ τ' : ga_S) (i : Int) : Prop := ∀ F, F ∈ [fM_pFirst, fM_pTest, fM_pWhat] → ∀ k, k ≠ i → τ' F 0 k = τ F 0 k
/-- what a phrase leaves -/
def phX (σ σ' τ τ' : ga_S) (f : Int) (N : Nat) (a b : Int) : Prop := PE σ' τ' f N ∧ JR σ' τ' ∧ fr tsC σ σ' ∧ fr phM τ τ' ∧ σ' fR_runs 0 0 = σ fR_runs 0 0 ∧ rKeepC σ σ' ∧ rKeep τ τ' ∧ tKeep τ τ' (τ fM_tCount 0 0) ∧ pKeep τ τ' (τ fM_pCount 0 0) ∧ τ fM_tCount 0 0 ≤ τ' fM_tCount 0 0 ∧ τ' fM_tCount 0 0 ≤ τ fM_tCount 0 0 + 1 ∧ τ' fM_pCount 0 0 = τ fM_pCount 0 0 + 1 ∧ (σ' fR_bad 0 0 = -1 → τ' fM_tCount 0 0 = τ fM_tCount 0 0 + 1 ∧ σ' fR_p 0 0 = b ∧ pRw σ' τ' f a b (τ fM_pCount 0 0) (τ fM_tCount 0 0))
/-- the stores where a phrase begins -/
def ph0 (τ : ga_S) : ga_S := ga_up (ga_up (ga_up τ fM_pFirst 0 (τ fM_pCount 0 0) (τ fM_at 0 0)) fM_pTest 0 (τ fM_pCount 0 0) (τ fM_tCount 0 0)) fM_tFirst 0 (τ fM_tCount 0 0) (τ fM_at 0 0)
theorem ph0_fr (τ : ga_S) : fr [fM_pFirst, fM_pTest, fM_tFirst] τ (ph0 τ) := by
  unfold ph0
  exact fr_trans (fr_trans (fr_u (by decide)) (fr_u (by decide))) (fr_u (by decide))
/-- a phrase from its key on: w is what the model keeps for it -/
theorem ph_wrap {σ τ : ga_S} {f : Int} {N : Nat} (hE : ENV σ τ f N) (hb : σ fR_bad 0 0 = -1) {a b : Int} (hbN : b ≤ N) (hτ : τ fM_isBad 0 0 = 0 ∧ τ fM_at 0 0 = f + a) (hJr : 0 ≤ σ fR_runs 0 0) (hi : 0 ≤ τ fM_pCount 0 0 ∧ τ fM_pCount 0 0 < 1700) (hj : 0 ≤ τ fM_tCount 0 0 ∧ τ fM_tCount 0 0 < 1700) {d : Nat} (hd : 2 ≤ d) {σ1 σ2 τ1 τ2 τ3 : ga_S} (f1 : fr [fR_p, fR_propertyFrom] σ σ1) (m1 : fr [fM_at, fM_pWhat, fM_tWhat] (ph0 τ) τ1) (mk : pKeep (ph0 τ) τ1 (τ fM_pCount 0 0)) (mt : tKeep (ph0 τ) τ1 (τ fM_tCount 0 0)) (Q : uQ σ1 σ2 τ1 τ2 f N (τ fM_tCount 0 0)) (e3 : fr [fM_tCount] τ2 τ3) (j3 : τ3 fM_tCount 0 0 = τ fM_tCount 0 0 + 1 ∨ (σ2 fR_bad 0 0 ≠ -1 ∧ τ3 fM_tCount 0 0 = τ fM_tCount 0 0)) (hT : σ2 fR_bad 0 0 = -1 → toT (σ2 fT_kinds 0) 1 (σ2 fR_p 0 0) b) (hrow : σ2 fR_bad 0 0 = -1 → σ2 fR_p 0 0 = b → pRw σ2 τ2 f a b (τ fM_pCount 0 0) (τ fM_tCount 0 0)) (hc : c_r_phraseShape (d + 1) σ a b = r_phraseShape_349 d σ2 b (σ fR_runs 0 0)) (hm : c_m_phrase (d + 1) τ = m_phrase_409 d τ3) : ∃ σ' τ', c_r_phraseShape (d + 1) σ a b = some (0, σ') ∧ c_m_phrase (d + 1) τ = some (0, τ') ∧ phX σ σ' τ τ' f N a b := by
  have h0 := ph0_fr τ
  have kk : τ1 fM_token = τ fM_token := (m1 _ (by decide)).trans (h0 _ (by decide))
  have E1 : ENV σ1 τ1 f N := ENV_c hE (f1 _ (by decide)) kk
  have E2 := uQ_E Q E1
  have E3 : ENV σ2 τ3 f N := ENV_c E2 rfl (e3 _ (by decide))
  have P3 : PR σ2 τ3 f N := PR_c Q.1 rfl rfl (e3 _ (by decide)) (e3 _ (by decide)) (e3 _ (by decide))
  have J3 : JR σ2 τ3 := JR_mv Q.2.1 rfl (by rw [e3 _ (by decide)]) rfl (fun z => ⟨z, Or.inl rfl⟩)
  have r1 : σ1 fR_runs 0 0 = σ fR_runs 0 0 := by rw [f1 _ (by decide)]
  have ip : τ3 fM_pCount 0 0 = τ fM_pCount 0 0 := by rw [e3 _ (by decide), Q.2.2.2.1 _ (by decide), m1 _ (by decide), h0 _ (by decide)]
  obtain ⟨σ', τ', g1, g2, g3, g4, g5, g6, g7, g8, g9⟩ := T_pend E3 P3 J3 hd (n := σ fR_runs 0 0) hJr (by have := Q.2.2.2.2.1; omega) hT hbN (by rw [ip]; exact hi)
  have jt : τ' fM_tCount 0 0 = τ3 fM_tCount 0 0 := by rw [g6 _ (by decide)]
  refine ⟨σ', τ', by rw [hc, g1], by rw [hm, g2], g3, g4, ?_, ?_, g7, ?_, ?_, ?_, ?_, ?_, ?_, by rw [g8, ip], fun z => ?_⟩
  · exact fr_trans (fr_sub f1 (by decide)) (fr_trans Q.2.2.1 (fr_sub g5 (by decide)))
  · exact fr_trans (fr_sub h0 (by decide)) (fr_trans (fr_sub m1 (by decide)) (fr_trans (fr_sub Q.2.2.2.1 (by decide)) (fr_trans (fr_sub e3 (by decide)) (fr_sub g6 (by decide)))))
  · intro x hx
    have k2 := Q.2.2.2.2.2.1 x (by omega)
    rw [g5 _ (by decide), g5 _ (by decide), k2.1, k2.2, f1 _ (by decide), f1 _ (by decide)]
    exact ⟨rfl, rfl⟩
  · have k0 : rKeep τ τ1 := rKeep_eq ((m1 _ (by decide)).trans (h0 _ (by decide))) ((m1 _ (by decide)).trans (h0 _ (by decide))) ((m1 _ (by decide)).trans (h0 _ (by decide)))
    refine rKeep_trans k0 (rKeep_trans Q.2.2.2.2.2.2.1 (rKeep_eq ?_ ?_ ?_))
    · rw [g6 _ (by decide), e3 _ (by decide)]
    · rw [g6 _ (by decide), e3 _ (by decide)]
    · rw [g6 _ (by decide), e3 _ (by decide)]
  · have t0 : tKeep τ (ph0 τ) (τ fM_tCount 0 0) := by
      intro F hF k hk
      unfold ph0
      rw [up_j hk]
      have n1 : F ≠ fM_pTest := fun z => by subst z; exact absurd hF (by decide)
      have n2 : F ≠ fM_pFirst := fun z => by subst z; exact absurd hF (by decide)
      rw [up_F n1, up_F n2]
    exact tKeep_trans t0 (tKeep_trans mt (tKeep_trans Q.2.2.2.2.2.2.2 (tKeep_trans (tKeep_f e3 (mem_no (by decide))) (tKeep_f g6 (mem_no (by decide))))))
  · intro F hF k hk
    have n1 : F ∉ [fM_at, fM_isBad, fM_badAt, fM_pCount] := by intro z; revert hF z; simp only [List.mem_cons, List.not_mem_nil, or_false]; intro a b; rcases a with a | a | a <;> rcases b with b | b | b | b <;> rw [a] at b <;> exact absurd b (by decide)
    have n2 : F ∉ [fM_tCount] := by intro z; revert hF z; simp only [List.mem_cons, List.not_mem_nil, or_false]; intro a b; rcases a with a | a | a <;> rw [a] at b <;> exact absurd b (by decide)
    have n3 : F ∉ tsM := by intro z; simp only [List.mem_cons, List.not_mem_nil, or_false] at hF; rcases hF with a | a | a <;> rw [a] at z <;> exact absurd z (by decide)
    rw [g6 F n1, e3 F n2, Q.2.2.2.1 F n3, mk F hF k hk]
    unfold ph0
    have n4 : F ≠ fM_tFirst := by intro z; rw [z] at hF; exact absurd hF (by decide)
    rw [up_F n4, up_j hk, up_j hk]
  · rw [jt]; omega
  · rw [jt]; omega
  · have q := g9 z
    refine ⟨?_, q.2.2, ?_⟩
    · rw [jt]
      rcases j3 with j3 | j3
      · exact j3
      · exact absurd q.1 j3.1
    · refine pRw_keep (hrow q.1 q.2.1) g5 ?_
      exact fr_trans (fr_sub e3 (by decide)) (fr_sub g6 (by decide))

/-! the end of a sentence -/
theorem P_end {σ τ : ga_S} {f : Int} {N : Nat} (hE : ENV σ τ f N) (h : PG σ τ f N) {d : Nat} (hd : 3 ≤ d) : ∃ v σ' τ', r_shape_264 d σ = some (v, σ') ∧ m_sentence_350 d τ = some (0, τ') ∧ fr pcL σ σ' ∧ fr pmL τ τ' ∧ ((v = 0 ∧ 0 ≤ σ' fR_bad 0 0 ∧ σ' fR_bad 0 0 ≤ N ∧ τ' fM_isBad 0 0 = 1 ∧ τ' fM_badAt 0 0 = f + σ' fR_bad 0 0) ∨ (v = 1 ∧ σ fT_kinds 0 N = 3 ∧ σ fR_bad 0 0 = -1 ∧ σ' fR_bad 0 0 = -1 ∧ τ fM_isBad 0 0 = 0 ∧ τ' fM_isBad 0 0 = 0 ∧ σ' fR_p 0 0 = N + 1 ∧ τ' fM_at 0 0 = f + N + 1 ∧ σ fR_p 0 0 = N ∧ 2 * τ' fM_runs 0 0 ≤ 5001)) := by
  obtain ⟨d, rfl⟩ : ∃ e, d = e + 1 + 1 := ⟨d - 2, by omega⟩
  have hf := hE.1
  have hN := hE.2.1
  have hN5 := hE.2.2.1
  rw [e_r_shape_264, e_m_sentence_350]
  rcases h with ⟨h1, h2, h3, h4, h5, hJ⟩ | ⟨h1, h2, h3, h4⟩ | ⟨h1, h2, h3, h4, h5, h6⟩
  · have K := hE.2.2.2.1 _ h3 h4
    have k3 := ENV_is hE h3 h4 (c := 3) (by decide)
    rw [show cdM 3 = 46 from rfl] at k3
    by_cases c3 : σ fT_kinds 0 (σ fR_p 0 0) = 3
    · have pN : σ fR_p 0 0 = N := by
        by_cases c : σ fR_p 0 0 < N
        · have := hE.2.2.2.2.2 _ h3 c
          omega
        · omega
      have tk : c_r_take (d + 1 + 1) σ 3 = some (1, ga_up σ fR_p 0 0 (σ fR_p 0 0 + 1)) := by
        rw [e_r_take, if_pos h1, ck_ok _ (by omega), if_pos c3, w32_ok (by omega)]
      have mt : c_m_take (d + 1 + 1) τ 46 = some (0, ga_up τ fM_at 0 0 (τ fM_at 0 0 + 1)) := by
        rw [e_m_take, e_m_isNext, if_pos h2, ck_ok _ (by omega), h5, if_pos (k3.mpr c3)]
        simp only [Option.bind_some]
        rw [if_neg (by decide), w32_ok (by omega), h5]
      rw [tk, mt]
      simp only [Option.bind_some]
      rw [if_pos (by rw [up_F (by decide)]; exact h1)]
      refine ⟨1, _, _, rfl, rfl, fr_u (by decide), fr_u (by decide), Or.inr ⟨rfl, by rw [← pN]; exact c3, h1, ?_, h2, ?_, ?_, ?_, pN, by rw [up_F (by decide)]; exact hJ⟩⟩
      · rw [up_F (by decide)]; exact h1
      · rw [up_F (by decide)]; exact h2
      · rw [up_eq, pN]
      · rw [up_eq, h5, pN]
    · have tk : c_r_take (d + 1 + 1) σ 3 = some (0, ga_up σ fR_bad 0 0 (σ fR_p 0 0)) := by
        rw [e_r_take, if_pos h1, ck_ok _ (by omega), if_neg c3, e_r_take_24, s_r_wrong (by omega), if_pos h1]
        simp only [Option.bind_some]
        rw [z1_ok _ (by decide)]
      have mt : c_m_take (d + 1 + 1) τ 46 = some (0, ga_up (ga_up τ fM_isBad 0 0 1) fM_badAt 0 0 (τ fM_at 0 0)) := by
        rw [e_m_take, e_m_isNext, if_pos h2, ck_ok _ (by omega), h5, if_neg (fun z => c3 (k3.mp z))]
        simp only [Option.bind_some]
        rw [if_pos trivial, s_m_odd (by omega), if_pos h2, h5]
        simp only [Option.bind_some]
      rw [tk, mt]
      simp only [Option.bind_some]
      rw [if_neg (by rw [up_eq]; omega)]
      refine ⟨0, _, _, rfl, rfl, fr_u (by decide), fr_trans (fr_u (by decide)) (fr_u (by decide)), Or.inl ⟨rfl, ?_, ?_, ?_, ?_⟩⟩
      · rw [up_eq]; exact h3
      · rw [up_eq]; exact h4
      · rw [up_F (by decide), up_eq]
      · rw [up_eq, up_eq]; exact h5
  · rw [cb_take (by omega) (by omega), mb_take (by omega) h3]
    simp only [Option.bind_some]
    rw [if_neg (by omega)]
    exact ⟨0, σ, τ, rfl, rfl, fr_refl _ _, fr_refl _ _, Or.inl ⟨rfl, h1, h2, h3, h4⟩⟩
  · have tk : c_r_take (d + 1 + 1) σ 3 = some (0, ga_up σ fR_bad 0 0 (σ fR_p 0 0)) := by
      rw [e_r_take, if_pos h1, ck_ok _ (by omega), if_neg h4, e_r_take_24, s_r_wrong (by omega), if_pos h1]
      simp only [Option.bind_some]
      rw [z1_ok _ (by decide)]
    rw [tk, mb_take (by omega) h5]
    simp only [Option.bind_some]
    rw [if_neg (by rw [up_eq]; omega)]
    refine ⟨0, _, τ, rfl, rfl, fr_u (by decide), fr_refl _ _, Or.inl ⟨rfl, ?_, ?_, h5, ?_⟩⟩
    · rw [up_eq]; exact h2
    · rw [up_eq]; exact h3
    · rw [up_eq]; exact h6
/-! what is kept of a sentence -/
def uR (σ τ : ga_S) (f : Int) (N : Nat) : Prop := 0 ≤ σ fR_whatAt 0 0 ∧ σ fR_whatAt 0 0 ≤ N ∧ τ fM_textAt 0 0 = f + σ fR_whatAt 0 0 ∧ σ fT_kinds 0 (σ fR_whatAt 0 0) = 2 ∧ σ fR_runs 0 0 = 1 ∧ rr σ τ f 0 0
def dR (σ τ : ga_S) (f : Int) (N : Nat) : Prop := σ fR_runs 0 0 = 2 ∧ rr σ τ f 0 0 ∧ rr σ τ f 1 1 ∧ teS σ τ f N ∧ 1 ≤ σ fR_tests 0 0
def seR (σ τ : ga_S) (f : Int) (N : Nat) : Prop := τ fM_sort 0 0 = σ fR_sort 0 0 ∧ ((σ fR_sort 0 0 = 1 ∧ uR σ τ f N) ∨ (σ fR_sort 0 0 = 2 ∧ dR σ τ f N) ∨ ((3 ≤ σ fR_sort 0 0 ∧ σ fR_sort 0 0 ≤ 6) ∧ ruR σ τ f N (σ fR_sort 0 0)) ∨ (7 ≤ σ fR_sort 0 0 ∧ osR σ τ f N))
theorem teS_f {σ σ' τ τ' : ga_S} {f : Int} {N : Nat} (h : teS σ τ f N) (h1 : fr pcL σ σ') (h2 : fr pmL τ τ') : teS σ' τ' f N := by
  obtain ⟨a, b, c⟩ := h
  unfold teS
  rw [h1 fR_tests (by decide), h2 fM_tShown (by decide), h1 fT_kinds (by decide), h1 fR_runs (by decide), h1 fR_testFrom (by decide), h1 fR_testTo (by decide)]
  exact ⟨a, b, fun i x y => teR_keep (c i x y) (fun F hF => by rw [h2 F (mem_no (L := tA) (by decide) F hF)]) (rKeep_f h2 (by decide))⟩
theorem phR_f {σ σ' τ τ' : ga_S} {f : Int} {N : Nat} (h : phR σ τ f N) (h1 : fr pcL σ σ') (h2 : fr pmL τ τ') : phR σ' τ' f N := by
  obtain ⟨a, b, c⟩ := h
  unfold phR
  rw [h1 fR_phrases (by decide), h2 fM_pCount (by decide), h1 fT_kinds (by decide), h1 fR_runs (by decide), h1 fR_phraseFrom (by decide), h1 fR_phraseTo (by decide), h1 fR_tests (by decide)]
  exact ⟨a, b, fun i x y => peR_keep (c i x y) (fun F hF => by rw [h2 F (mem_no (L := [fM_pFirst, fM_pTest, fM_pWhat]) (by decide) F hF)]) (fun F hF => by rw [h2 F (mem_no (L := tA) (by decide) F hF)]) (rKeep_f h2 (by decide))⟩
theorem rr_f {σ σ' τ τ' : ga_S} {f i r : Int} (h : rr σ τ f i r) (h1 : fr pcL σ σ') (h2 : fr pmL τ τ') : rr σ' τ' f i r := by
  unfold rr at h ⊢
  rw [h1 fR_runFrom (by decide), h1 fR_runTo (by decide)]
  exact rnR_keep h (rKeep_f h2 (by decide)) (h1 _ (by decide))
theorem nn_f {σ σ' τ τ' : ga_S} {f i r : Int} (h : nn σ τ f i r) (h1 : fr pcL σ σ') (h2 : fr pmL τ τ') : nn σ' τ' f i r := by
  unfold nn at h ⊢
  rw [h1 fR_nameFrom (by decide), h1 fR_nameTo (by decide)]
  exact rnR_keep h (rKeep_f h2 (by decide)) (h1 _ (by decide))
theorem hdR_f {σ σ' τ τ' : ga_S} {f s : Int} (h : hdR σ τ f s) (h1 : fr pcL σ σ') (h2 : fr pmL τ τ') : hdR σ' τ' f s := hdR_keep h (by rw [h1 _ (by decide)]) (rKeepC_eq (h1 _ (by decide)) (h1 _ (by decide))) (rKeep_f h2 (by decide)) (h1 _ (by decide)) (h2 _ (by decide)) (h2 _ (by decide))
theorem plR_f {σ σ' τ τ' : ga_S} {f : Int} (h : plR σ τ f) (h1 : fr pcL σ σ') (h2 : fr pmL τ τ') : plR σ' τ' f := by
  unfold plR at h ⊢
  rw [h1 fR_placeSort (by decide), h1 fR_placeFrom (by decide), h1 fR_placeTo (by decide), h2 fM_placeWay (by decide), h2 fM_placeRun (by decide)]
  exact ⟨h.1, h.2.1, h.2.2.1, rnR_keep h.2.2.2 (rKeep_f h2 (by decide)) (h1 _ (by decide))⟩
theorem oC_f {σ σ' : ga_S} (h : oC σ) (h1 : fr pcL σ σ') : oC σ' := by
  unfold oC at h ⊢
  rw [h1 fR_runs (by decide), h1 fR_runTo (by decide), h1 fR_runFrom (by decide)]
  exact h
theorem oN_f {σ σ' : ga_S} (h : oN σ) (h1 : fr pcL σ σ') : oN σ' := by
  unfold oN at h ⊢
  rw [h1 fR_names (by decide), h1 fR_nameTo (by decide), h1 fR_nameFrom (by decide)]
  exact h
theorem ruO_f {σ σ' : ga_S} (h : ruO σ) (h1 : fr pcL σ σ') : ruO σ' := by
  unfold ruO at h ⊢
  rw [h1 fR_runs (by decide), h1 fR_runTo (by decide), h1 fR_tests (by decide), h1 fR_testFrom (by decide), h1 fR_phrases (by decide), h1 fR_phraseFrom (by decide)]
  exact h
theorem beR_f {σ σ' τ τ' : ga_S} {f n p : Int} (h : beR σ τ f n p) (h1 : fr pcL σ σ') (h2 : fr pmL τ τ') : beR σ' τ' f n p := by
  obtain ⟨a, b, c⟩ := h
  unfold beR
  rw [h1 fR_sort (by decide), h2 fM_sort (by decide), h1 fR_runs (by decide), h1 fR_isValue (by decide), h2 fM_what (by decide), h1 fR_placeSort (by decide), h2 fM_placeWay (by decide), h2 fM_placeRun (by decide), h2 fM_isNot (by decide), h2 fM_isUsually (by decide), h1 fR_not (by decide), h1 fR_usually (by decide), h2 fM_runs (by decide), h1 fR_runFrom (by decide)]
  refine ⟨a, fun i x y => rr_f (b i x y) h1 h2, ?_⟩
  rcases c with c | c | ⟨c1, c2, c3, c4⟩ | ⟨c1, c2, c3⟩ | c | c | c
  · exact Or.inl c
  · exact Or.inr (Or.inl c)
  · refine Or.inr (Or.inr (Or.inl ⟨c1, c2, c3, ?_⟩))
    rcases c4 with c4 | c4
    · exact Or.inl c4
    · exact Or.inr (plR_f c4 h1 h2)
  · exact Or.inr (Or.inr (Or.inr (Or.inl ⟨c1, c2, plR_f c3 h1 h2⟩)))
  · exact Or.inr (Or.inr (Or.inr (Or.inr (Or.inl c))))
  · exact Or.inr (Or.inr (Or.inr (Or.inr (Or.inr (Or.inl c)))))
  · exact Or.inr (Or.inr (Or.inr (Or.inr (Or.inr (Or.inr ⟨c.1, c.2.1, c.2.2.1, c.2.2.2.1, oC_f c.2.2.2.2.1 h1, c.2.2.2.2.2⟩)))))
theorem osR_f {σ σ' τ τ' : ga_S} {f : Int} {N : Nat} (h : osR σ τ f N) (h1 : fr pcL σ σ') (h2 : fr pmL τ τ') (hp : σ fR_p 0 0 = N) : osR σ' τ' f N := by
  obtain ⟨a, c⟩ := h
  unfold osR
  rw [h1 fR_sort (by decide), h2 fM_sort (by decide), h1 fR_runs (by decide), h1 fR_names (by decide), h2 fM_what (by decide), h1 fR_whatAt (by decide), h1 fT_kinds (by decide), h1 fR_runFrom (by decide), h2 fM_listFrom (by decide), h2 fM_listSize (by decide), h1 fR_verb (by decide), h2 fM_isAre (by decide), h2 fM_firstIsOne (by decide), h1 fR_firstOne (by decide), h2 fM_secondIsOne (by decide), h1 fR_secondOne (by decide)]
  refine ⟨a, ?_⟩
  rcases c with ⟨c1, c2, c3, c4, c5⟩ | ⟨c1, c2, c3, c4, c5, c6, c7, c9, c8⟩ | ⟨c1, c2, c3, c0, c4, c5, c6, p, c7, c8⟩ | ⟨c1, c2, c3, c4, c5, c6, c0, c7⟩ | c
  · exact Or.inl ⟨c1, c2, rr_f c3 h1 h2, rr_f c4 h1 h2, c5⟩
  · refine Or.inr (Or.inl ⟨c1, c2, nn_f c3 h1 h2, rr_f c4 h1 h2, c5, c6, c7, c9, ?_⟩)
    rcases c8 with c8 | ⟨x, y, z, w⟩
    · exact Or.inl c8
    · exact Or.inr ⟨x, y, rr_f z h1 h2, Or.inr (by rw [h1 fR_runTo (by decide)]; rcases w with w | w; exact w.trans hp; exact w)⟩
  · exact Or.inr (Or.inr (Or.inl ⟨c1, c2, fun k x y => nn_f (c3 k x y) h1 h2, oN_f c0 h1, c4, c5, c6, p, beR_f c7 h1 h2, fun k x y => by rw [h1 fR_nameTo (by decide)]; exact c8 k x y⟩))
  · exact Or.inr (Or.inr (Or.inr (Or.inl ⟨c1, c2, nn_f c3 h1 h2, c4, rr_f c5 h1 h2, rr_f c6 h1 h2, fun z => oC_f (c0 z) h1, c7⟩)))
  · exact Or.inr (Or.inr (Or.inr (Or.inr c)))
theorem seR_f {σ σ' τ τ' : ga_S} {f : Int} {N : Nat} (h : seR σ τ f N) (h1 : fr pcL σ σ') (h2 : fr pmL τ τ') (hp : σ fR_p 0 0 = N) : seR σ' τ' f N := by
  obtain ⟨a, c⟩ := h
  unfold seR
  rw [h1 fR_sort (by decide), h2 fM_sort (by decide)]
  refine ⟨a, ?_⟩
  rcases c with ⟨c1, c2⟩ | ⟨c1, c2⟩ | ⟨c1, c2⟩ | ⟨c1, c2⟩
  · refine Or.inl ⟨c1, ?_⟩
    unfold uR at c2 ⊢
    rw [h1 fR_whatAt (by decide), h2 fM_textAt (by decide), h1 fT_kinds (by decide), h1 fR_runs (by decide)]
    exact ⟨c2.1, c2.2.1, c2.2.2.1, c2.2.2.2.1, c2.2.2.2.2.1, rr_f c2.2.2.2.2.2 h1 h2⟩
  · refine Or.inr (Or.inl ⟨c1, ?_⟩)
    unfold dR at c2 ⊢
    rw [h1 fR_runs (by decide), h1 fR_tests (by decide)]
    exact ⟨c2.1, rr_f c2.2.1 h1 h2, rr_f c2.2.2.1 h1 h2, teS_f c2.2.2.2.1 h1 h2, c2.2.2.2.2⟩
  · exact Or.inr (Or.inr (Or.inl ⟨c1, hdR_f c2.1 h1 h2, teS_f c2.2.1 h1 h2, phR_f c2.2.2.1 h1 h2, ruO_f c2.2.2.2.1 h1, oC_f c2.2.2.2.2 h1⟩))
  · exact Or.inr (Or.inr (Or.inr ⟨c1, osR_f c2 h1 h2 hp⟩))

/-! a sentence that is a text alone; odd tokens -/
section
variable {σ τ : ga_S} {f : Int} {g : Int}
/-- the component's reading of a text -/
theorem tx_C (h0 : σ fT_kinds 0 0 = 2) (h1 : σ fT_kinds 0 1 = 3) {d : Nat} (hd : 3 ≤ d) : ∃ σ', c_r_shape d σ = some (1, σ') ∧ fr seC σ σ' ∧ σ' fR_sort 0 0 = 0 ∧ σ' fR_bad 0 0 = -1 := by
  obtain ⟨d, rfl⟩ : ∃ e, d = e + 1 + 1 := ⟨d - 2, by omega⟩
  have s0 := se0_fr σ
  obtain ⟨ρ, e1⟩ : ∃ x, x = ga_up (ga_up (se0 σ) fR_sort 0 0 0) fR_p 0 0 1 := ⟨_, rfl⟩
  have p0 : (se0 σ) fR_p 0 0 = 0 := (se0_v σ).1
  have b0 : (se0 σ) fR_bad 0 0 = -1 := (se0_v σ).2.1
  have f1 : fr [fR_sort, fR_p] (se0 σ) ρ := by rw [e1]; exact fr_trans (fr_u (by decide)) (fr_u (by decide))
  have b1 : ρ fR_bad 0 0 = -1 := by rw [f1 _ (by decide)]; exact b0
  have p1 : ρ fR_p 0 0 = 1 := by rw [e1, up_eq]
  have k1 : ρ fT_kinds 0 1 = 3 := by rw [f1 _ (by decide), s0 _ (by decide)]; exact h1
  have tk : c_r_take (d + 1) ρ 3 = some (1, ga_up ρ fR_p 0 0 2) := by
    rw [e_r_take, if_pos b1, p1, ck_ok _ (by omega), if_pos k1, w32_ok (by omega)]
    rfl
  refine ⟨ga_up ρ fR_p 0 0 2, ?_, fr_trans (fr_sub s0 (by decide)) (fr_trans (fr_sub f1 (by decide)) (fr_u (by decide))), by rw [up_F (by decide), e1, up_F (by decide), up_eq], by rw [up_F (by decide)]; exact b1⟩
  have run := e_r_shape (d + 1) σ
  rw [h0, nn_ok _ (by decide), show (ga_up (ga_up (ga_up (ga_up (ga_up (ga_up (ga_up (ga_up (ga_up (ga_up σ fR_p 0 0 0) fR_bad 0 0 (-1)) fR_names 0 0 0) fR_runs 0 0 0) fR_tests 0 0 0) fR_phrases 0 0 0) fR_not 0 0 0) fR_usually 0 0 0) fR_isValue 0 0 0) fR_placeSort 0 0 0) = se0 σ from rfl, s_p_ord (by omega) _ _ (by decide)] at run
  simp only [Option.bind_some] at run
  rw [if_pos trivial, p0, show w32 ((0 : Int) + 1) = 1 by decide, ← e1, e_r_shape_264, tk] at run
  simp only [Option.bind_some] at run
  rw [if_pos (by rw [up_F (by decide)]; exact b1)] at run
  exact run
/-- the model's reading of a text -/
theorem tx_M (ha : τ fM_at 0 0 = f) (hf : 0 ≤ f ∧ f + 1 < 5002) (h0 : τ fM_token 0 f = 5) {d : Nat} (hd : 1 ≤ d) : ∃ τ', c_m_sentence d τ = some (0, τ') ∧ fr seM τ τ' ∧ τ' fM_sort 0 0 = 0 ∧ τ' fM_isBad 0 0 = 0 ∧ τ' fM_textAt 0 0 = f ∧ τ' fM_at 0 0 = (if τ fM_token 0 (f + 1) = 46 then f + 2 else f + 1) := by
  obtain ⟨d, rfl⟩ : ∃ e, d = e + 1 := ⟨d - 1, by omega⟩
  have run := e_m_sentence d τ
  rw [ha, ck_ok _ (by omega), if_pos h0, w32_ok (x := f + 1) (by omega), ck_ok _ (by omega)] at run
  obtain ⟨υ, e1⟩ : ∃ x, x = ga_up (ga_up (ga_up (ga_up (ga_up (ga_up (ga_up (ga_up (ga_up (ga_up τ fM_isBad 0 0 0) fM_runs 0 0 0) fM_tCount 0 0 0) fM_tShown 0 0 0) fM_pCount 0 0 0) fM_isNot 0 0 0) fM_isUsually 0 0 0) fM_sort 0 0 0) fM_textAt 0 0 f) fM_at 0 0 (f + 1) := ⟨_, rfl⟩
  rw [← e1] at run
  have f1 : fr seM τ υ := by
    rw [e1]
    exact fr_trans (fr_trans (fr_trans (fr_trans (fr_trans (fr_trans (fr_trans (fr_trans (fr_trans (fr_u (by decide)) (fr_u (by decide))) (fr_u (by decide))) (fr_u (by decide))) (fr_u (by decide))) (fr_u (by decide))) (fr_u (by decide))) (fr_u (by decide))) (fr_u (by decide))) (fr_u (by decide))
  have s1 : υ fM_sort 0 0 = 0 := by rw [e1, up_F (by decide), up_F (by decide), up_eq]
  have s2 : υ fM_isBad 0 0 = 0 := by
    rw [e1, up_F (by decide), up_F (by decide), up_F (by decide), up_F (by decide), up_F (by decide), up_F (by decide), up_F (by decide), up_F (by decide), up_F (by decide), up_eq]
  have s3 : υ fM_textAt 0 0 = f := by rw [e1, up_F (by decide), up_eq]
  by_cases c : τ fM_token 0 (f + 1) = 46
  · rw [if_pos c, e_m_sentence_97, w32_ok (by omega)] at run
    refine ⟨_, run, fr_trans f1 (fr_u (by decide)), by rw [up_F (by decide)]; exact s1, by rw [up_F (by decide)]; exact s2, by rw [up_F (by decide)]; exact s3, ?_⟩
    rw [up_eq, if_pos c]; omega
  · rw [if_neg c, e_m_sentence_97, w32_ok (by omega)] at run
    refine ⟨_, run, fr_trans f1 (fr_u (by decide)), by rw [up_F (by decide)]; exact s1, by rw [up_F (by decide)]; exact s2, by rw [up_F (by decide)]; exact s3, ?_⟩
    rw [up_eq, if_neg c]; omega
theorem a0_bf (τ : ga_S) : (a0 τ) fM_bestFault 0 0 = 0 := by
  unfold a0
  rw [up_F (by decide), up_F (by decide), up_F (by decide), up_eq]
/-- a text is told of the latest object -/
theorem sn_0 (I : SI σ τ g) (hT : TOK σ τ f 0) (hf : 0 ≤ f ∧ f ≤ 5001) (h1 : σ fR_fault 0 0 = 0) (hY : τ fM_isDry 0 0 = 0) (hst : τ fM_story 0 = σ fT_bytes 0) (hs : σ fR_sort 0 0 = 0) (ht : τ fM_sort 0 0 = 0) (hx : τ fM_textAt 0 0 = f) (hl : 2 ≤ σ fT_lengths 0 0 ∧ τ fM_length 0 f = σ fT_lengths 0 0 - 2) (hB : ∀ q, σ fT_places 0 0 < q → q < σ fT_places 0 0 + σ fT_lengths 0 0 - 1 → 0 ≤ σ fT_bytes 0 q) {d : Nat} (hd : 20 ≤ d) : snO σ τ g f d := by
  obtain ⟨d, rfl⟩ : ∃ e, d = e + 1 := ⟨d - 1, by omega⟩
  have tk := hT.2.1 0 (Int.le_refl _) (Int.le_refl _)
  rw [show f + 0 = f by omega] at tk
  have lt := I.2.2.2.2.2.2.2.1
  have kf := k0_fr σ
  have af := a0_fr τ
  obtain ⟨K0, F0, _⟩ := k0_ok h1 0
  obtain ⟨M0, G0, _⟩ := a0_ok σ τ f 0
  have rC := e_r_check d σ
  rw [if_pos hs, show (ga_up (ga_up (ga_up (ga_up (ga_up (ga_up σ fR_newNames 0 0 0) fR_itKind 0 0 (-1)) fR_nounKind 0 0 (-1)) fR_isDescribed 0 0 0) fR_isTyped 0 0 0) fR_isAdjectival 0 0 0) = k0 σ from rfl] at rC
  have rM := e_m_asked d τ f
  rw [if_pos ht, show (ga_up (ga_up (ga_up (ga_up τ fM_bestFault 0 0 0) fM_news 0 0 0) fM_itKind 0 0 (-1)) fM_nounKind 0 0 (-1)) = a0 τ from rfl] at rM
  by_cases c : σ fR_latest 0 0 = -1
  · rw [if_pos c] at rC
    rw [if_pos (by rw [lt.1]; exact c), e_m_asked_138, af fM_textAt (by decide), hx] at rM
    obtain ⟨σ1, a1, a2, a3⟩ := k_note hT (by omega) K0 F0 (t := 0) (r := 2) (why := 4) ⟨Int.le_refl _, Int.le_refl _⟩ (by omega) (by decide) (d := d) (by omega)
    obtain ⟨e, ed⟩ : ∃ e, d = e + 1 := ⟨d - 1, by omega⟩
    obtain ⟨τ1, b1, b2, b3⟩ := m_note hT ⟨hf.1, by omega⟩ M0 G0 (t := 0) (t' := f) (r := 2) (why := 4) ⟨Int.le_refl _, Int.le_refl _⟩ (by omega) (by omega) (by decide) (d := e) (by omega)
    rw [a1] at rC
    have nd : c_m_need d (a0 τ) 0 4 f = some (0, τ1) := by rw [ed, e_m_need, if_pos rfl, b1]; rfl
    rw [nd] at rM
    have cb := cd_r hT (t := 0) (r := 2) ⟨Int.le_refl _, Int.le_refl _⟩ (by omega)
    refine ⟨σ1, τ1, rC, rM, Or.inl ⟨FG_bad a3 b3 (by omega), ?_, ?_, fun F hF => ?_, ?_⟩⟩
    · exact fr_trans (fr_sub kf (by decide)) (fr_sub a2 (by decide))
    · exact fr_trans (fr_sub af (by decide)) (fr_sub b2 (by decide))
    · rw [fr_no a2 (M := slF3) (by decide) hF, fr_no kf (M := slF3) (by decide) hF]
    · rw [b2 _ (by decide), af _ (by decide)]; exact hY
  · rw [if_neg c] at rC
    rw [if_neg (by rw [lt.1]; exact c), e_m_asked_138] at rM
    obtain ⟨e, ed⟩ : ∃ e, d = e + 1 := ⟨d - 1, by omega⟩
    have nd : c_m_need d (a0 τ) 1 4 ((a0 τ) fM_textAt 0 0) = some (0, a0 τ) := by rw [ed, e_m_need, if_neg (by decide)]
    rw [nd] at rM
    have f1 : (k0 σ) fR_fault 0 0 = 0 := by rw [kf _ (by decide)]; exact h1
    have g1 : (a0 τ) fM_bestFault 0 0 = 0 := a0_bf τ
    have I1 : SI (k0 σ) (a0 τ) g := SI_f I kf (by decide) af (by decide)
    have hl0 := lt.2.resolve_left c
    have sz := hT.1.1
    obtain ⟨b, σ2, τ2, x1, x2, x3, x4, x5⟩ := act_0 I1.1 I1.2.2.1 I1.2.1 I1.2.2.2.1 (by rw [kf _ (by decide), af _ (by decide)]; exact hst) (by rw [kf _ (by decide)]; exact sz) f1 g1 (by rw [kf _ (by decide)]; exact hs) (by rw [af _ (by decide)]; exact ht) (by rw [kf _ (by decide), af _ (by decide)]; exact lt.1) (by rw [kf _ (by decide), kf _ (by decide)]; exact hl0) (by rw [af _ (by decide), hx]; omega) (by rw [af fM_place (by decide), af fM_textAt (by decide), kf _ (by decide), hx]; exact tk.2.2.2) (by rw [af fM_length (by decide), af fM_textAt (by decide), kf _ (by decide), hx]; exact hl.2) (by rw [kf fT_places (by decide), kf fT_lengths (by decide), kf fT_size (by decide)]; exact ⟨tk.1, hl.1, tk.2.2.1⟩) I1.2.2.2.2.2.2.2.2.1 (by rw [kf fT_places (by decide), kf fT_lengths (by decide), kf fT_bytes (by decide)]; exact hB) (d := d) (by omega) (first := f) (by omega) (by rw [af _ (by decide), kf _ (by decide)]; exact tk.2.2.2)
    refine ⟨k0 σ, a0 τ, rC, rM, Or.inr ⟨f1, g1, b, σ2, τ2, x1, x2, ?_⟩⟩
    have fC : fr bgC σ σ2 := fr_trans (fr_sub kf (by decide)) (fr_sub x3 (by decide))
    have fM : fr bgM τ τ2 := fr_trans (fr_sub af (by decide)) (fr_sub x4 (by decide))
    have dry : τ2 fM_isDry 0 0 = 0 := by rw [x4 _ (by decide), af _ (by decide)]; exact hY
    rcases x5 with ⟨_, y1, y2, y3, y4, y5, y6⟩ | ⟨_, y⟩
    · right
      have S2 : tkS (k0 σ) σ2 := tkS_f (tkS_r _) x3 (by decide)
      refine ⟨y1, y2, ⟨g, Int.le_refl _, (g_same _).2, ?_⟩, fC, fM, by rw [x3 _ (by decide), kf _ (by decide)], dry⟩
      exact SI_act I1 S2 x3 (by decide) x4 (by decide) y3 y4 y5 y6 (tv8_f I1.2.2.2.2.1 (x3 _ (by decide)) (x3 _ (by decide))) (LT_f I1.2.2.2.2.2.2.2.1 (S2.2.2.2.2.1 _ (by decide)) (x3 _ (by decide)) (x4 _ (by decide))) (fun a _ _ => by rw [x4 _ (by decide)]) (fun a z0 z1 => by rw [x3 fW_adjectives (by decide)] at z1; omega) (NW_e (x3 _ (by decide)) (x3 _ (by decide)))
    · exact Or.inl ⟨AF_bd y (by decide), fC, fM, fun F hF => by rw [fr_no x3 (M := slF3) (by decide) hF, fr_no kf (M := slF3) (by decide) hF], dry⟩
/-- the first odd token: none up to the end of a sentence -/
theorem m_odd_l {K : Nat} (hK : f + K < 5002) (hf : 0 ≤ f) (h : ∀ j : Nat, j < K → τ fM_token 0 (f + j) ≠ 46 ∧ τ fM_token 0 (f + j) ≠ 1 ∧ τ fM_token 0 (f + j) ≠ 2) (h2 : τ fM_token 0 (f + K) = 46 ∨ τ fM_token 0 (f + K) = 1 ∨ τ fM_token 0 (f + K) = 2) (d : Nat) : ∀ j : Nat, j ≤ K → m_oddOf_14 d τ (f + j) = some (if τ fM_token 0 (f + K) = 2 then f + K else -1, τ) := by
  have fin : m_oddOf_51 d τ (f + K) = some (if τ fM_token 0 (f + K) = 2 then f + K else -1, τ) := by
    rw [e_m_oddOf_51, ck_ok _ (by omega)]
    by_cases c : τ fM_token 0 (f + K) = 2
    · rw [if_pos c, if_pos c]
    · rw [if_neg c, if_neg c]
  have main : ∀ (m j : Nat), j + m = K → m_oddOf_14 d τ (f + j) = some (if τ fM_token 0 (f + K) = 2 then f + K else -1, τ) := by
    intro m
    induction m with
    | zero =>
      intro j e
      have e' : j = K := by omega
      subst e'
      rw [e_m_oddOf_14, ck_ok _ (by omega), ck_ok _ (by omega), ck_ok _ (by omega)]
      by_cases c1 : τ fM_token 0 (f + j) = 46
      · rw [if_pos c1]; exact fin
      · rw [if_neg c1]
        by_cases c2 : τ fM_token 0 (f + j) = 1
        · rw [if_pos c2]; exact fin
        · rw [if_neg c2, if_pos (by omega)]; exact fin
    | succ m ih =>
      intro j e
      have t := h j (by omega)
      rw [e_m_oddOf_14, ck_ok _ (by omega), ck_ok _ (by omega), ck_ok _ (by omega), if_neg t.1, if_neg t.2.1, if_neg t.2.2, w32_ok (by omega), show f + (j : Int) + 1 = f + ((j + 1 : Nat) : Int) by push_cast; omega]
      exact ih (j + 1) (by omega)
  intro j hj
  exact main (K - j) j (by omega)
end

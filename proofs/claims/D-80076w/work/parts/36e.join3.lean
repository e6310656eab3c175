/-! a sentence is checked and done, on both sides: adjectives and values -/
section
variable {σ τ σ1 τ1 σ2 τ2 : ga_S} {f : Int} {N : Nat} {g : Int}
theorem sn_Y (H : snH σ τ f N g) {A : ga_S → ga_S → Prop} {KL ML : List Nat} {d : Nat} (X : ∃ σ' τ' c, c_r_check d σ = some (0, σ') ∧ c_m_asked d τ f = some (0, τ') ∧ KC σ σ' ∧ KM τ τ' ∧ FT σ' c ∧ GT τ' c ∧ fr KL σ σ' ∧ fr ML τ τ' ∧ (c = 1000000 → A σ' τ')) (hM : (siM ++ qL).all (fun F => !(ML.contains F)) = true) (hE : sbM ML = true) (act : ∀ σ1 τ1, acH σ τ σ1 τ1 f N g → fr KL σ σ1 → fr ML τ τ1 → A σ1 τ1 → ∃ b σ2 τ2, c_r_act d σ1 = some (b, σ2) ∧ c_m_does1 d τ1 f = some (0, τ2) ∧ (bdO σ τ σ2 τ2 ∨ gdO σ τ σ2 τ2 g)) : snO σ τ g f d := by
  obtain ⟨σ1, τ1, c, x1, x2, K, M, F1, G1, k1, m1, a⟩ := X
  rw [List.all_append, Bool.and_eq_true] at hM
  refine ⟨σ1, τ1, x1, x2, ?_⟩
  by_cases z : c = 1000000
  · have o := FG_ok F1 G1 z
    have R := acH_mk H K m1 hM.1 (fun F hF k _ => by rw [fr_no m1 hM.2 hF]) o
    exact Or.inr ⟨o.1, o.2, act σ1 τ1 R k1 m1 (a z)⟩
  · exact Or.inl (bd_mk H (FG_bad F1 G1 z) K.1 (by decide) (by decide) m1 hE)
/-- values of a type -/
theorem vJ (H : snH σ τ f N g) (V : vaH σ τ f) (h1n : σ fR_names 0 0 = 1) (R : acH σ τ σ1 τ1 f N g) (k1 : fr ksL σ σ1) (m1 : fr (a0L ++ fM_how :: mbN) τ τ1) (hs : σ fR_sort 0 0 = 15 ∨ σ fR_sort 0 0 = 16) (ht : τ fM_sort 0 0 = σ fR_sort 0 0) (b1 : 2 ≤ tyN σ (nN σ 0)) (b2 : tyN σ (nN σ 0) < σ fW_types 0 0) (b3 : σ1 fR_kind0 0 0 = tyN σ (nN σ 0)) (b4 : σ1 fR_isTyped 0 0 = 1) (b5 : τ1 fM_how 0 0 = 2) (b6 : ∀ j, 0 ≤ j → j < σ fR_runs 0 0 → nB σ (wC σ j) ((rg 0 j).map (wC σ)) = true ∧ σ fW_typeValues 0 (tyN σ (nN σ 0)) + j < 8) {d : Nat} (hd : 18 ≤ d) : ∃ b σ2 τ2, c_r_act (d + 2) σ1 = some (b, σ2) ∧ c_m_does1 (d + 2) τ1 f = some (0, τ2) ∧ (bdO σ τ σ2 τ2 ∨ gdO σ τ σ2 τ2 g) := by
  have hm : τ fM_runs 0 0 ≤ 2600 := by have := H.2.2.2.1; omega
  obtain ⟨C, S, T, E, I, h1, h2⟩ := R
  obtain ⟨v1, v2, v3, v4, v5, v6, v7, v8, v9⟩ := V
  have en : σ1 fR_nameFrom = σ fR_nameFrom := k1 _ (by decide)
  have em : σ1 fR_nameTo = σ fR_nameTo := k1 _ (by decide)
  have er : σ1 fR_runFrom = σ fR_runFrom := k1 _ (by decide)
  have et : σ1 fR_runTo = σ fR_runTo := k1 _ (by decide)
  have es : σ1 fR_runs = σ fR_runs := k1 _ (by decide)
  have eN : nN σ1 = nN σ := by funext i; unfold nN; rw [en, em, cg_nm C]
  have eW : wC σ1 = wC σ := by funext i; unfold wC; rw [er, et, cg_ws C]
  have R0 := RU_S S T (RU_of H.1.1 (v1 0 (Int.le_refl _) (by omega)) hm)
  rw [← en, ← em] at R0
  have hsr : σ1 fR_sort = σ fR_sort := k1 _ (by decide)
  obtain ⟨σ2, τ2, x1, x2, x3, x4, x5, x6, x7, x8, x9, x10⟩ := act_v E I.2.2.1 I.2.1 I.2.2.2.2.1 (by rw [hsr]; exact hs) (by rw [m1 _ (by decide), hsr]; exact ht) b4 b5 (T := tyN σ (nN σ 0)) (m := σ fR_names 0 0) b3 ⟨b1, by rw [C.2.2.2 _ (by decide)]; exact b2⟩ (by rw [cg_ty C, eN]) R0 (by rw [m1 _ (by decide)]; exact v4.1) (by rw [m1 _ (by decide)]; exact v6) (by omega) (by rw [m1 _ (by decide), es]; exact v8) (fun k k0 k1' => by
    rw [es] at k1'
    rw [er, et]
    exact ⟨RU_S S T (RU_of H.1.1 (v5 k k0 k1') hm), (v5 k k0 k1').2.2.2.2.1⟩) (by rw [es]; omega) (fun j j0 j1 => by
    rw [es] at j1
    rw [cg_nB C, eW, C.2.2.2 fW_typeValues (by decide)]
    exact b6 j j0 j1) (d := d) (by omega) f
  refine ⟨1, σ2, τ2, x1, x2, Or.inr ?_⟩
  refine gd_mk H k1 (by decide) m1 (by decide) x3 (by decide) x4 (by decide) (by rw [x3 _ (by decide)]; exact h1) (by rw [x4 _ (by decide)]; exact h2) (g_same _) ?_
  exact SI_act I x9 x3 (by decide) x4 (by decide) x5 x6 x7 (kb0_f I.2.2.2.1 (fr_mem x3 (by decide)) (x4 _ (by decide))) x8 (LT_f I.2.2.2.2.2.2.2.1 (x9.2.2.2.2.1 _ (by decide)) (x3 _ (by decide)) (x4 _ (by decide))) (fun a _ _ => by rw [x4 _ (by decide)]) (fun a z0 z1 => by rw [x3 fW_adjectives (by decide)] at z1; omega) x10
theorem sn_16 (H : snH σ τ f N g) (V : vaH σ τ f) (hs : σ fR_sort 0 0 = 16) (ht : τ fM_sort 0 0 = 16) (hu : τ fM_isUsually 0 0 = 0) (hp : ∃ p, (∀ k, 0 ≤ k → k < σ fR_names 0 0 → σ fR_nameTo 0 k ≤ p) ∧ p ≤ σ fR_runFrom 0 0) {d : Nat} (hd : 20 ≤ d) : snO σ τ g f d := by
  obtain ⟨d, rfl⟩ : ∃ e, d = e + 2 := ⟨d - 2, by omega⟩
  refine sn_Y H (ck_16 H.1 H.2.2.1 H.2.2.2.1 hs ht V hu hp (d := d) (by omega) f) (by decide) (by decide) ?_
  intro σ1 τ1 R k1 m1 ⟨a1, a2, a3, a4, a5, a6, a7⟩
  exact vJ H V a1 R k1 m1 (Or.inr hs) (by rw [ht, hs]) a2 a3 a4 a5 a6 a7 (by omega)
/-- the end of adjectives -/
theorem aj_fin (H : snH σ τ f N g) (I : SI σ1 τ1 g) {KL KM : List Nat} (k1 : fr KL σ σ1) (hk1 : sbC KL = true) (hs1 : slF3.all (fun F => !(KL.contains F)) = true) (m1 : fr KM τ τ1) (hk2 : sbM KM = true) {C M : Option (Int × ga_S)} (Z : ajZ σ1 τ1 g C M) : ∃ b σ2 τ2, C = some (b, σ2) ∧ M = some (0, τ2) ∧ (bdO σ τ σ2 τ2 ∨ gdO σ τ σ2 τ2 g) := by
  obtain ⟨b, σ2, τ2, z1, z2, z3⟩ := Z
  refine ⟨b, σ2, τ2, z1, z2, ?_⟩
  rcases z3 with ⟨_, x3, x4, y1, y2, ⟨B1, B2, B3, B4, B5, B6⟩, y4⟩ | ⟨_, t, y, q1, q2⟩
  · right
    refine gd_mk H k1 hk1 m1 hk2 x3 (by decide) x4 (by decide) y1 y2 (g_same _) ?_
    have lt : LT σ2 τ2 := by
      rcases y4 with z | z
      · exact LT_f I.2.2.2.2.2.2.2.1 (B1.2.2.2.2.1 _ (by decide)) z.1 z.2
      · exact ⟨z.1, Or.inr z.2⟩
    exact SI_act I B1 x3 (by decide) x4 (by decide) B3 B4 B5 B6.1 (tv8_f I.2.2.2.2.1 (x3 _ (by decide)) (x3 _ (by decide))) lt (fun a _ _ => by rw [x4 _ (by decide)]) (fun a z0 z1 => by rw [x3 fW_adjectives (by decide)] at z1; omega) B6.2
  · exact Or.inl (bd_mk2 H (AF_bd y (by decide)) k1 hk1 hs1 m1 hk2 q1 (by decide) (by decide) q2 (by decide))
theorem sn_15 (H : snH σ τ f N g) (V : vaH σ τ f) (hs : σ fR_sort 0 0 = 15) (ht : τ fM_sort 0 0 = 15) (hps : σ fR_placeSort 0 0 = 0) (hu : τ fM_isUsually 0 0 = σ fR_usually 0 0) (hnt : τ fM_isNot 0 0 = σ fR_not 0 0) (hnt1 : σ fR_not 0 0 = 0 ∨ σ fR_not 0 0 = 1) (hbe : (σ fR_verb 0 0 = 13 ∧ τ fM_isAre 0 0 = 0) ∨ (σ fR_verb 0 0 = 14 ∧ τ fM_isAre 0 0 = 1)) {d : Nat} (hd : 20 ≤ d) : snO σ τ g f d := by
  obtain ⟨d, rfl⟩ : ∃ e, d = e + 2 := ⟨d - 2, by omega⟩
  have hm : τ fM_runs 0 0 ≤ 2600 := by have := H.2.2.2.1; omega
  have V' := V
  obtain ⟨v1, v2, v3, v4, v5, v6, v7, v8, v9⟩ := V'
  have hnm : σ fR_names 0 0 ≤ 2500 := by
    have := (v1 (σ fR_names 0 0 - 1) (by omega) (by omega)).2.1
    have := H.2.2.2.1
    omega
  have hRr : rr σ τ f 0 (σ fR_names 0 0) := by
    have := v5 0 (Int.le_refl _) (by omega)
    rw [Int.add_zero] at this
    exact this
  by_cases cu : σ fR_usually 0 0 = 0
  · obtain ⟨nt, hb⟩ : ∃ nt : Bool, σ fR_not 0 0 = b2i nt := by
      rcases hnt1 with z | z
      · exact ⟨false, z⟩
      · exact ⟨true, z⟩
    by_cases cv : nt = false ∧ σ fR_names 0 0 = 1 ∧ 2 ≤ tyN σ (nN σ 0)
    · have n0 : σ fR_not 0 0 = 0 := by rw [hb, cv.1]; rfl
      refine sn_Y H (ck_15v H.1 H.2.2.1 H.2.2.2.1 hs ht V cu hu n0 (by rw [hnt]; exact n0) cv.2.1 cv.2.2 (d := d) (by omega) f) (by decide) (by decide) ?_
      intro σ1 τ1 R k1 m1 ⟨a3, a4, a5, a6, a7⟩
      exact vJ H V cv.2.1 R k1 m1 (Or.inl hs) (by rw [ht, hs]) cv.2.2 a3 a4 a5 a6 a7 (by omega)
    · refine sn_Y H (ck_15p H.1 H.2.2.1 H.2.2.2.1 hs ht V cu hu nt hb (by rw [hnt]; exact hb) hbe cv (d := d) (by omega) f) (by decide) (by decide) ?_
      intro σ1 τ1 ⟨C, S, T, E, I, h1, h2⟩ k1 m1 A
      have en : σ1 fR_nameFrom = σ fR_nameFrom := k1 _ (by decide)
      have em : σ1 fR_nameTo = σ fR_nameTo := k1 _ (by decide)
      have er : σ1 fR_runFrom = σ fR_runFrom := k1 _ (by decide)
      have et : σ1 fR_runTo = σ fR_runTo := k1 _ (by decide)
      have ec : σ1 fR_names = σ fR_names := k1 _ (by decide)
      have eN : nN σ1 = nN σ := by funext i; unfold nN; rw [en, em, cg_nm C]
      have eR : nR σ1 = nR σ := by funext i; unfold nR; rw [er, et, cg_nm C]
      have hs1 : σ1 fR_sort 0 0 = 15 := by rw [k1 _ (by decide)]; exact hs
      have ht1 : τ1 fM_sort 0 0 = 15 := by rw [m1 _ (by decide)]; exact ht
      have hst : τ1 fM_story 0 = σ1 fT_bytes 0 := by rw [T fM_story (by decide), C.2.1]; exact H.2.2.2.2.2.2.2.1
      have hl1 : τ1 fM_listFrom 0 0 = 0 ∧ τ1 fM_listSize 0 0 = σ1 fR_names 0 0 := by rw [m1 fM_listFrom (by decide), m1 fM_listSize (by decide), ec]; exact v4
      have ew : τ1 fM_what 0 0 = σ fR_names 0 0 := by rw [m1 fM_what (by decide)]; exact v6
      have RN : ∀ k, 0 ≤ k → k < σ1 fR_names 0 0 → RU σ1 τ1 f N k (σ1 fR_nameFrom 0 k) (σ1 fR_nameTo 0 k) ∧ σ1 fR_nameFrom 0 k < σ1 fR_nameTo 0 k := by
        intro k k0 k1'
        rw [ec] at k1'
        rw [en, em]
        exact ⟨RU_S S T (RU_of H.1.1 (v1 k k0 k1') hm), (v1 k k0 k1').2.2.2.2.1⟩
      rcases A with ⟨a1, a2, ⟨P, q1, q2⟩, a4, a5, a6⟩ | ⟨a1, a2, a3, a4, a5, a6, a7⟩
      · have pd : pcD σ1 τ1 := by
          unfold plD at q1
          by_cases z : nt = false ∧ σ fR_verb 0 0 = 14
          · rw [if_pos z] at q1
            exact pcD_mk H.1 C (by rw [q1]; exact List.mem_singleton.mpr rfl) q2 a4 (by rw [ht1]; decide)
          · rw [if_neg z] at q1; cases q1
        exact pc_fin H I k1 (by decide) (by decide) m1 (by decide) (act_15d E I.2.2.1 I.2.1 I.2.2.2.1 h1 h2 hs1 ht1 a6 a5 (by rw [ew]; omega) (by rw [k1 _ (by decide)]; exact hps) (by rw [a4]; decide) pd hst hl1 RN (cg_oA C a2 en em ec) (by rw [ec]; exact ⟨v3, hnm⟩) (d := d) (by omega) f)
      · have R0 := RU_S S T (RU_of H.1.1 hRr hm)
        rw [← er, ← et, ← ew] at R0
        exact aj_fin H I k1 (by decide) (by decide) m1 (by decide) (act_15a E I.2.2.1 I.2.1 I.2.2.2.1 h1 h2 hs1 ht1 a5 a4 (by rw [k1 _ (by decide)]; exact cu) a7 hst nt (by rw [k1 _ (by decide)]; exact hb) (by rw [m1 _ (by decide), hnt]; exact hb) hl1 (by rw [ew]; omega) R0 (fun k k0 k1' => (RN k k0 k1').1) (fun k k0 k1' => by
          rw [ec] at k1'
          rw [cg_d C, cg_aC C, eN, eR, C.2.2.2 fW_kindOf (by decide)]
          exact a3 k k0 k1') (by rw [ec]; exact ⟨v3, hnm⟩) (d := d) (by omega) f)
  · refine sn_Y H (ck_15u H.1 H.2.2.1 H.2.2.2.1 hs ht V cu hu (d := d) (by omega) f) (by decide) (by decide) ?_
    intro σ1 τ1 ⟨C, S, T, E, I, h1, h2⟩ k1 m1 ⟨a1, a2, a3, a4, a5, a6, a7, a8, a9, a10, a11⟩
    have en : σ1 fR_nameFrom = σ fR_nameFrom := k1 _ (by decide)
    have em : σ1 fR_nameTo = σ fR_nameTo := k1 _ (by decide)
    have er : σ1 fR_runFrom = σ fR_runFrom := k1 _ (by decide)
    have et : σ1 fR_runTo = σ fR_runTo := k1 _ (by decide)
    have eN : nN σ1 = nN σ := by funext i; unfold nN; rw [en, em, cg_nm C]
    have eR : nR σ1 = nR σ := by funext i; unfold nR; rw [er, et, cg_nm C]
    have R0 := RU_S S T (RU_of H.1.1 hRr hm)
    rw [← er, ← et] at R0
    have RN := RU_S S T (RU_of H.1.1 (v1 0 (Int.le_refl _) (by omega)) hm)
    rw [← en, ← em] at RN
    exact aj_fin H I k1 (by decide) (by decide) m1 (by decide) (act_15u E I.2.2.1 I.2.1 I.2.2.2.1 h1 h2 (by rw [k1 _ (by decide)]; exact hs) (by rw [m1 _ (by decide)]; exact ht) a10 a11 (by rw [k1 _ (by decide)]; exact cu) a9 (by rw [T fM_story (by decide), C.2.1]; exact H.2.2.2.2.2.2.2.1) (by rw [m1 _ (by decide)]; exact v4.1) (by rw [m1 fM_what (by decide), v6]; omega) R0.2.2.2 RN (by rw [cg_d C, eN]; exact a4) (by rw [cg_d C, eN]; exact a2) (by rw [cg_aC C, cg_d C, eN, eR]; exact a3) (by rw [cg_aL C, cg_d C, eN, eR]; exact a8) (d := d) (by omega) f)
end

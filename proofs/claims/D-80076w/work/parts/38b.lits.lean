/-! literals, and the names that the world has at first -/
abbrev wd0 : List Int := [116, 104, 105, 110, 103]
theorem lt0 : lit 0 wd0 := ⟨by decide +kernel, by unfold isW; decide, by decide, by decide⟩
abbrev wd1 : List Int := [116, 104, 105, 110, 103, 115]
theorem lt1 : lit 1 wd1 := ⟨by decide +kernel, by unfold isW; decide, by decide, by decide⟩
abbrev wd2 : List Int := [114, 111, 111, 109]
theorem lt2 : lit 2 wd2 := ⟨by decide +kernel, by unfold isW; decide, by decide, by decide⟩
abbrev wd3 : List Int := [114, 111, 111, 109, 115]
theorem lt3 : lit 3 wd3 := ⟨by decide +kernel, by unfold isW; decide, by decide, by decide⟩
abbrev wd4 : List Int := [99, 111, 110, 116, 97, 105, 110, 101, 114]
theorem lt4 : lit 4 wd4 := ⟨by decide +kernel, by unfold isW; decide, by decide, by decide⟩
abbrev wd5 : List Int := [99, 111, 110, 116, 97, 105, 110, 101, 114, 115]
theorem lt5 : lit 5 wd5 := ⟨by decide +kernel, by unfold isW; decide, by decide, by decide⟩
abbrev wd6 : List Int := [115, 117, 112, 112, 111, 114, 116, 101, 114]
theorem lt6 : lit 6 wd6 := ⟨by decide +kernel, by unfold isW; decide, by decide, by decide⟩
abbrev wd7 : List Int := [115, 117, 112, 112, 111, 114, 116, 101, 114, 115]
theorem lt7 : lit 7 wd7 := ⟨by decide +kernel, by unfold isW; decide, by decide, by decide⟩
abbrev wd8 : List Int := [112, 101, 114, 115, 111, 110]
theorem lt8 : lit 8 wd8 := ⟨by decide +kernel, by unfold isW; decide, by decide, by decide⟩
abbrev wd9 : List Int := [112, 101, 111, 112, 108, 101]
theorem lt9 : lit 9 wd9 := ⟨by decide +kernel, by unfold isW; decide, by decide, by decide⟩
abbrev wd10 : List Int := [110, 117, 109, 98, 101, 114]
theorem lt10 : lit 10 wd10 := ⟨by decide +kernel, by unfold isW; decide, by decide, by decide⟩
abbrev wd11 : List Int := [116, 101, 120, 116]
theorem lt11 : lit 11 wd11 := ⟨by decide +kernel, by unfold isW; decide, by decide, by decide⟩
abbrev wd12 : List Int := [102, 105, 120, 101, 100]
theorem lt12 : lit 12 wd12 := ⟨by decide +kernel, by unfold isW; decide, by decide, by decide⟩
abbrev wd13 : List Int := [112, 111, 114, 116, 97, 98, 108, 101]
theorem lt13 : lit 13 wd13 := ⟨by decide +kernel, by unfold isW; decide, by decide, by decide⟩
abbrev wd14 : List Int := [100, 101, 115, 99, 114, 105, 112, 116, 105, 111, 110]
theorem lt14 : lit 14 wd14 := ⟨by decide +kernel, by unfold isW; decide, by decide, by decide⟩
abbrev wd15 : List Int := [112, 108, 97, 121, 101, 114]
theorem lt15 : lit 15 wd15 := ⟨by decide +kernel, by unfold isW; decide, by decide, by decide⟩
abbrev wd16 : List Int := [119, 97, 105, 116, 105, 110, 103]
theorem lt16 : lit 16 wd16 := ⟨by decide +kernel, by unfold isW; decide, by decide, by decide⟩
abbrev wd17 : List Int := [116, 97, 107, 105, 110, 103]
theorem lt17 : lit 17 wd17 := ⟨by decide +kernel, by unfold isW; decide, by decide, by decide⟩
abbrev wd18 : List Int := [100, 114, 111, 112, 112, 105, 110, 103]
theorem lt18 : lit 18 wd18 := ⟨by decide +kernel, by unfold isW; decide, by decide, by decide⟩
abbrev wd19 : List Int := [101, 120, 97, 109, 105, 110, 105, 110, 103]
theorem lt19 : lit 19 wd19 := ⟨by decide +kernel, by unfold isW; decide, by decide, by decide⟩
abbrev wd20 : List Int := [103, 111, 105, 110, 103]
theorem lt20 : lit 20 wd20 := ⟨by decide +kernel, by unfold isW; decide, by decide, by decide⟩
abbrev wd22 : List Int := [119, 97, 105, 116]
theorem lt22 : lit 22 wd22 := ⟨by decide +kernel, by unfold isW; decide, by decide, by decide⟩
abbrev wd23 : List Int := [116, 97, 107, 101]
theorem lt23 : lit 23 wd23 := ⟨by decide +kernel, by unfold isW; decide, by decide, by decide⟩
abbrev wd24 : List Int := [103, 101, 116]
theorem lt24 : lit 24 wd24 := ⟨by decide +kernel, by unfold isW; decide, by decide, by decide⟩
abbrev wd25 : List Int := [100, 114, 111, 112]
theorem lt25 : lit 25 wd25 := ⟨by decide +kernel, by unfold isW; decide, by decide, by decide⟩
abbrev wd26 : List Int := [101, 120, 97, 109, 105, 110, 101]
theorem lt26 : lit 26 wd26 := ⟨by decide +kernel, by unfold isW; decide, by decide, by decide⟩
abbrev wd27 : List Int := [103, 111]
theorem lt27 : lit 27 wd27 := ⟨by decide +kernel, by unfold isW; decide, by decide, by decide⟩
abbrev wr0 : List Int := [110, 111, 114, 116, 104]
theorem lr0 : lit 32 wr0 := ⟨by decide +kernel, by unfold isW; decide, by decide, by decide⟩
theorem ls0 : lit 6000021 wr0 := ⟨by decide +kernel, by unfold isW; decide, by decide, by decide⟩
theorem li0 : am_idx 21 32 0 = 5 := by decide +kernel
abbrev wr1 : List Int := [115, 111, 117, 116, 104]
theorem lr1 : lit 33 wr1 := ⟨by decide +kernel, by unfold isW; decide, by decide, by decide⟩
theorem ls1 : lit 12006021 wr1 := ⟨by decide +kernel, by unfold isW; decide, by decide, by decide⟩
theorem li1 : am_idx 21 32 6 = 11 := by decide +kernel
abbrev wr2 : List Int := [101, 97, 115, 116]
theorem lr2 : lit 34 wr2 := ⟨by decide +kernel, by unfold isW; decide, by decide, by decide⟩
theorem ls2 : lit 17012021 wr2 := ⟨by decide +kernel, by unfold isW; decide, by decide, by decide⟩
theorem li2 : am_idx 21 32 12 = 16 := by decide +kernel
abbrev wr3 : List Int := [119, 101, 115, 116]
theorem lr3 : lit 35 wr3 := ⟨by decide +kernel, by unfold isW; decide, by decide, by decide⟩
theorem ls3 : lit 22017021 wr3 := ⟨by decide +kernel, by unfold isW; decide, by decide, by decide⟩
theorem li3 : am_idx 21 32 17 = 21 := by decide +kernel
abbrev wr4 : List Int := [117, 112]
theorem lr4 : lit 36 wr4 := ⟨by decide +kernel, by unfold isW; decide, by decide, by decide⟩
theorem ls4 : lit 25022021 wr4 := ⟨by decide +kernel, by unfold isW; decide, by decide, by decide⟩
theorem li4 : am_idx 21 32 22 = 24 := by decide +kernel
abbrev wr5 : List Int := [100, 111, 119, 110]
theorem lr5 : lit 37 wr5 := ⟨by decide +kernel, by unfold isW; decide, by decide, by decide⟩
theorem ls5 : lit 30025021 wr5 := ⟨by decide +kernel, by unfold isW; decide, by decide, by decide⟩
theorem li5 : am_idx 21 32 25 = 29 := by decide +kernel
theorem l28 : am_txt 28 = [] := by decide +kernel
theorem l21 : am_len 21 = 30 := by decide +kernel
abbrev EA : List (List Int × Int × Int) := [(wd0, 0, 0), (wd1, 11, 0), (wd2, 0, 1), (wd3, 11, 1), (wd4, 0, 2), (wd5, 11, 2), (wd6, 0, 3), (wd7, 11, 3), (wd8, 0, 4), (wd9, 11, 4)]
abbrev EP : List (List Int × Int × Int) := [(wd0, 0, 0), (wd1, 11, 0), (wd2, 0, 1), (wd3, 11, 1), (wd4, 0, 2), (wd5, 11, 2), (wd6, 0, 3), (wd7, 11, 3), (wd8, 0, 4), (wd9, 11, 4), (wd10, 1, 0), (wd11, 1, 1), (wd12, 3, 0), (wd13, 3, 1), (wd14, 5, 0), (wd15, 2, 0)]
abbrev EC : List (List Int × Int × Int) := [(wd0, 0, 0), (wd1, 11, 0), (wd2, 0, 1), (wd3, 11, 1), (wd4, 0, 2), (wd5, 11, 2), (wd6, 0, 3), (wd7, 11, 3), (wd8, 0, 4), (wd9, 11, 4), (wd10, 1, 0), (wd11, 1, 1), (wd12, 3, 0), (wd13, 3, 1), (wd14, 5, 0), (wd15, 2, 0), (wd16, 8, 0), (wd17, 8, 1), (wd18, 8, 2), (wd19, 8, 3), (wd20, 8, 4)]
abbrev EB : List (List Int × Int × Int) := [(wd0, 0, 0), (wd1, 11, 0), (wd2, 0, 1), (wd3, 11, 1), (wd4, 0, 2), (wd5, 11, 2), (wd6, 0, 3), (wd7, 11, 3), (wd8, 0, 4), (wd9, 11, 4), (wd10, 1, 0), (wd11, 1, 1), (wd12, 3, 0), (wd13, 3, 1), (wd14, 5, 0), (wd15, 2, 0), (wd16, 8, 0), (wd17, 8, 1), (wd18, 8, 2), (wd19, 8, 3), (wd20, 8, 4), (wr0, 9, 0), (wr1, 9, 1), (wr2, 9, 2), (wr3, 9, 3), (wr4, 9, 4), (wr5, 9, 5)]
theorem k_tell1 {σ : ga_S} {E : List (List Int × Int × Int)} {str s n : Int} {w : List Int} (A : DL σ E) (hE : E.length < 590) (hw : lit str w) {d : Nat} (hd : 4 ≤ d) : ∃ σ', c_w_tell d σ str s n = some (0, σ') ∧ fr (dicL ++ spL) σ σ' ∧ DL σ' (E ++ [(w, s, n)]) := by
  obtain ⟨a1, a2, a3, _⟩ := id A
  obtain ⟨σ', e1, e2⟩ := k_tellS (s := s) (n := n) hw a1 (by omega) (by omega) hd
  exact ⟨σ', e1, e2.1, DL_tell A e2 (by have := hw.2.2.2; omega)⟩
theorem m_tell1 {τ : ga_S} {E : List (List Int × Int × Int)} {str s n ms mi : Int} {w : List Int} (A : ML τ E) (hE : E.length < 290) (hw : lit str w) (e1 : ms = sM s n) (e2 : mi = iM s n) {d : Nat} (hd : 3 ≤ d) : ∃ τ', c_m_tellWord d τ ms mi str = some (0, τ') ∧ fr lexL τ τ' ∧ ML τ' (E ++ [(w, s, n)]) := by
  obtain ⟨a1, _⟩ := id A
  obtain ⟨τ', x1, x2⟩ := m_tellW (τ := τ) (ms := ms) (mi := mi) hw (by omega) hd
  exact ⟨τ', x1, x2.1, ML_tell A x2 e1 e2⟩
def knC : List Nat := fW_parents :: fW_kinds :: (dicL ++ spL)
theorem k_fk {σ : ga_S} {E : List (List Int × Int × Int)} {s1 s2 p K K1 : Int} {w1 w2 : List Int} (A : DL σ E) (hE : E.length < 500) (h1 : lit s1 w1) (h2 : lit s2 w2) (hk : σ fW_kinds 0 0 = K) (hK : 0 ≤ K ∧ K < 16) (h : K + 1 = K1) {d : Nat} (hd : 5 ≤ d) : ∃ σ', c_w_firstKind d σ s1 s2 p = some (0, σ') ∧ fr knC σ σ' ∧ DL σ' (E ++ [(w1, 0, K)] ++ [(w2, 11, K)]) ∧ σ' fW_kinds 0 0 = K1 ∧ ∀ i, σ' fW_parents 0 i = if i = K then p else σ fW_parents 0 i := by
  obtain ⟨d, rfl⟩ : ∃ e, d = e + 1 + 1 := ⟨d - 2, by omega⟩
  obtain ⟨ρ, er⟩ : ∃ x, x = ga_up (ga_up σ fW_parents 0 K p) fW_kinds 0 0 K1 := ⟨_, rfl⟩
  have nk : c_w_newKind (d + 1) σ p = some (K, ρ) := by
    rw [e_w_newKind, hk, ck_ok _ hK, w32_ok (by omega), h, ← er]
  have f0 : fr [fW_parents, fW_kinds] σ ρ := by rw [er]; exact fr_trans (fr_u (by decide)) (fr_u (by decide))
  obtain ⟨σ1, a1, a2, a3⟩ := k_tell1 (s := 0) (n := K) (DL_f A f0 (by decide)) (by omega) h1 (d := d + 1) (by omega)
  obtain ⟨σ2, b1, b2, b3⟩ := k_tell1 (s := 11) (n := K) a3 (by rw [List.length_append]; show E.length + 1 < 590; omega) h2 (d := d + 1) (by omega)
  have f12 : fr (dicL ++ spL) ρ σ2 := fr_trans a2 b2
  refine ⟨σ2, ?_, fr_trans (fr_sub f0 (by decide)) (fr_sub f12 (by decide)), b3, by rw [f12 _ (by decide), er, up_eq], fun i => ?_⟩
  · rw [e_w_firstKind, nk]
    simp only [Option.bind_some]
    rw [a1]
    simp only [Option.bind_some]
    rw [b1]
    rfl
  · rw [f12 _ (by decide), er, up_F (by decide), up_at]
/-- the kinds -/
theorem kc_A {σ : ga_S} (A : DL σ []) (h0 : σ fW_kinds 0 0 = 0) {d : Nat} (hd : 5 ≤ d) : ∃ σ1 σ2 σ3 σ4 σ5, c_w_firstKind d σ 0 1 (-1) = some (0, σ1) ∧ c_w_firstKind d σ1 2 3 (-1) = some (0, σ2) ∧ c_w_firstKind d σ2 4 5 0 = some (0, σ3) ∧ c_w_firstKind d σ3 6 7 0 = some (0, σ4) ∧ c_w_firstKind d σ4 8 9 0 = some (0, σ5) ∧ fr knC σ σ5 ∧ DL σ5 EA ∧ σ5 fW_kinds 0 0 = 5 ∧ σ5 fW_parents 0 0 = -1 ∧ σ5 fW_parents 0 1 = -1 ∧ σ5 fW_parents 0 2 = 0 ∧ σ5 fW_parents 0 3 = 0 ∧ σ5 fW_parents 0 4 = 0 := by
  obtain ⟨σ1, a1, a2, a3, a4, a5⟩ := k_fk (p := -1) A (by decide) lt0 lt1 h0 (by decide) (show (0 : Int) + 1 = 1 by decide) hd
  obtain ⟨σ2, b1, b2, b3, b4, b5⟩ := k_fk (p := -1) a3 (by decide) lt2 lt3 a4 (by decide) (show (1 : Int) + 1 = 2 by decide) hd
  obtain ⟨σ3, c1, c2, c3, c4, c5⟩ := k_fk (p := 0) b3 (by decide) lt4 lt5 b4 (by decide) (show (2 : Int) + 1 = 3 by decide) hd
  obtain ⟨σ4, d1, d2, d3, d4, d5⟩ := k_fk (p := 0) c3 (by decide) lt6 lt7 c4 (by decide) (show (3 : Int) + 1 = 4 by decide) hd
  obtain ⟨σ5, e1, e2, e3, e4, e5⟩ := k_fk (p := 0) d3 (by decide) lt8 lt9 d4 (by decide) (show (4 : Int) + 1 = 5 by decide) hd
  refine ⟨σ1, σ2, σ3, σ4, σ5, a1, b1, c1, d1, e1, fr_trans a2 (fr_trans b2 (fr_trans c2 (fr_trans d2 e2))), e3, e4, ?_, ?_, ?_, ?_, ?_⟩
  · rw [e5, if_neg (by decide), d5, if_neg (by decide), c5, if_neg (by decide), b5, if_neg (by decide), a5, if_pos rfl]
  · rw [e5, if_neg (by decide), d5, if_neg (by decide), c5, if_neg (by decide), b5, if_pos rfl]
  · rw [e5, if_neg (by decide), d5, if_neg (by decide), c5, if_pos rfl]
  · rw [e5, if_neg (by decide), d5, if_pos rfl]
  · rw [e5, if_pos rfl]
def tyW9 : List Nat := fW_types :: fW_typeValues :: (dicL ++ spL)
theorem k_ty {σ : ga_S} {E : List (List Int × Int × Int)} {s1 T T1 : Int} {w1 : List Int} (A : DL σ E) (hE : E.length < 500) (h1 : lit s1 w1) (hk : σ fW_types 0 0 = T) (hK : 0 ≤ T ∧ T < 8) (h : T + 1 = T1) {d : Nat} (hd : 4 ≤ d) : ∃ ρ σ', c_w_newType d σ = some (T, ρ) ∧ c_w_tell d ρ s1 1 T = some (0, σ') ∧ fr tyW9 σ σ' ∧ DL σ' (E ++ [(w1, 1, T)]) ∧ σ' fW_types 0 0 = T1 ∧ ∀ i, σ' fW_typeValues 0 i = if i = T then 0 else σ fW_typeValues 0 i := by
  obtain ⟨d, rfl⟩ : ∃ e, d = e + 1 := ⟨d - 1, by omega⟩
  obtain ⟨ρ, er⟩ : ∃ x, x = ga_up (ga_up σ fW_typeValues 0 T 0) fW_types 0 0 T1 := ⟨_, rfl⟩
  have nk : c_w_newType (d + 1) σ = some (T, ρ) := by
    rw [e_w_newType, hk, ck_ok _ hK, w32_ok (by omega), h, ← er]
  have f0 : fr [fW_types, fW_typeValues] σ ρ := by rw [er]; exact fr_trans (fr_u (by decide)) (fr_u (by decide))
  obtain ⟨σ1, a1, a2, a3⟩ := k_tell1 (s := 1) (n := T) (DL_f A f0 (by decide)) (by omega) h1 (d := d + 1) (by omega)
  refine ⟨ρ, σ1, nk, a1, fr_trans (fr_sub f0 (by decide)) (fr_sub a2 (by decide)), a3, by rw [a2 _ (by decide), er, up_eq], fun i => ?_⟩
  rw [a2 _ (by decide), er, up_F (by decide), up_at]
def acC : List Nat := fW_actions :: fW_actionKinds :: (dicL ++ spL)
theorem k_ac {σ : ga_S} {E : List (List Int × Int × Int)} {s1 k T T1 : Int} {w1 : List Int} (A : DL σ E) (hE : E.length < 500) (h1 : lit s1 w1) (hk : σ fW_actions 0 0 = T) (hK : 0 ≤ T ∧ T < 12) (h : T + 1 = T1) {d : Nat} (hd : 4 ≤ d) : ∃ ρ σ', c_w_newAction d σ k = some (T, ρ) ∧ c_w_tell d ρ s1 8 T = some (0, σ') ∧ fr acC σ σ' ∧ DL σ' (E ++ [(w1, 8, T)]) ∧ σ' fW_actions 0 0 = T1 ∧ ∀ i, σ' fW_actionKinds 0 i = if i = T then k else σ fW_actionKinds 0 i := by
  obtain ⟨d, rfl⟩ : ∃ e, d = e + 1 := ⟨d - 1, by omega⟩
  obtain ⟨ρ, er⟩ : ∃ x, x = ga_up (ga_up σ fW_actionKinds 0 T k) fW_actions 0 0 T1 := ⟨_, rfl⟩
  have nk : c_w_newAction (d + 1) σ k = some (T, ρ) := by
    rw [e_w_newAction, hk, ck_ok _ hK, w32_ok (by omega), h, ← er]
  have f0 : fr [fW_actions, fW_actionKinds] σ ρ := by rw [er]; exact fr_trans (fr_u (by decide)) (fr_u (by decide))
  obtain ⟨σ1, a1, a2, a3⟩ := k_tell1 (s := 8) (n := T) (DL_f A f0 (by decide)) (by omega) h1 (d := d + 1) (by omega)
  refine ⟨ρ, σ1, nk, a1, fr_trans (fr_sub f0 (by decide)) (fr_sub a2 (by decide)), a3, by rw [a2 _ (by decide), er, up_eq], fun i => ?_⟩
  rw [a2 _ (by decide), er, up_F (by decide), up_at]
/-- the actions -/
theorem kc_F {σ : ga_S} (A : DL σ EP) (h0 : σ fW_actions 0 0 = 0) {d : Nat} (hd : 4 ≤ d) : ∃ ρ1 σ1 ρ2 σ2 ρ3 σ3 ρ4 σ4 ρ5 σ5, c_w_newAction d σ (-1) = some (0, ρ1) ∧ c_w_tell d ρ1 16 8 0 = some (0, σ1) ∧ c_w_newAction d σ1 0 = some (1, ρ2) ∧ c_w_tell d ρ2 17 8 1 = some (0, σ2) ∧ c_w_newAction d σ2 0 = some (2, ρ3) ∧ c_w_tell d ρ3 18 8 2 = some (0, σ3) ∧ c_w_newAction d σ3 0 = some (3, ρ4) ∧ c_w_tell d ρ4 19 8 3 = some (0, σ4) ∧ c_w_newAction d σ4 (-2) = some (4, ρ5) ∧ c_w_tell d ρ5 20 8 4 = some (0, σ5) ∧ fr acC σ σ5 ∧ DL σ5 EC ∧ σ5 fW_actions 0 0 = 5 ∧ σ5 fW_actionKinds 0 0 = -1 ∧ σ5 fW_actionKinds 0 1 = 0 ∧ σ5 fW_actionKinds 0 2 = 0 ∧ σ5 fW_actionKinds 0 3 = 0 ∧ σ5 fW_actionKinds 0 4 = -2 := by
  obtain ⟨ρ1, σ1, a0, a1, a2, a3, a4, a5⟩ := k_ac (k := -1) A (by decide) lt16 h0 (by decide) (show (0 : Int) + 1 = 1 by decide) hd
  obtain ⟨ρ2, σ2, b0, b1, b2, b3, b4, b5⟩ := k_ac (k := 0) a3 (by decide) lt17 a4 (by decide) (show (1 : Int) + 1 = 2 by decide) hd
  obtain ⟨ρ3, σ3, c0, c1, c2, c3, c4, c5⟩ := k_ac (k := 0) b3 (by decide) lt18 b4 (by decide) (show (2 : Int) + 1 = 3 by decide) hd
  obtain ⟨ρ4, σ4, d0, d1, d2, d3, d4, d5⟩ := k_ac (k := 0) c3 (by decide) lt19 c4 (by decide) (show (3 : Int) + 1 = 4 by decide) hd
  obtain ⟨ρ5, σ5, e0, e1, e2, e3, e4, e5⟩ := k_ac (k := -2) d3 (by decide) lt20 d4 (by decide) (show (4 : Int) + 1 = 5 by decide) hd
  refine ⟨ρ1, σ1, ρ2, σ2, ρ3, σ3, ρ4, σ4, ρ5, σ5, a0, a1, b0, b1, c0, c1, d0, d1, e0, e1, fr_trans a2 (fr_trans b2 (fr_trans c2 (fr_trans d2 e2))), e3, e4, ?_, ?_, ?_, ?_, ?_⟩
  · rw [e5, if_neg (by decide), d5, if_neg (by decide), c5, if_neg (by decide), b5, if_neg (by decide), a5, if_pos rfl]
  · rw [e5, if_neg (by decide), d5, if_neg (by decide), c5, if_neg (by decide), b5, if_pos rfl]
  · rw [e5, if_neg (by decide), d5, if_neg (by decide), c5, if_pos rfl]
  · rw [e5, if_neg (by decide), d5, if_pos rfl]
  · rw [e5, if_pos rfl]
def diC : List Nat := fX_alloc :: (dicL ++ spL)
/-- n Strings were made -/
def alR (σ σ' : ga_S) (n : Int) : Prop := 0 ≤ σ' fX_alloc 0 0 ∧ σ' fX_alloc 0 0 = σ fX_alloc 0 0 + n
theorem k_di {σ : ga_S} {E : List (List Int × Int × Int)} {a b i s : Int} {w : List Int} (A : DL σ E) (hE : E.length < 500) (hx : 0 ≤ σ fX_alloc 0 0) (h1 : am_idx 21 32 a = b) (hs : s = 21 + 1000 * a + 1000000 * (b + 1)) (hw : lit s w) (hab : 0 ≤ a ∧ a < b ∧ b < 30 ∧ b - a < 12) (hi : 0 ≤ i ∧ i < 6) {d : Nat} (hd : 4 ≤ d) : ∃ σ', w_clear_336 d σ 21 a i = w_clear_336 d σ' 21 (b + 1) (i + 1) ∧ fr diC σ σ' ∧ alR σ σ' 1 ∧ DL σ' (E ++ [(w, 9, i)]) := by
  obtain ⟨ρ, er⟩ : ∃ x, x = ga_up σ fX_alloc 0 0 (σ fX_alloc 0 0 + 1) := ⟨_, rfl⟩
  have f0 : fr [fX_alloc] σ ρ := by rw [er]; exact fr_u (by decide)
  have sb : p_sub d σ 21 a b = some (s, ρ) := by
    obtain ⟨d, rfl⟩ : ∃ e, d = e + 1 := ⟨d - 1, by omega⟩
    show (if 0 ≤ (21 : Int) ∧ (21 : Int) < 1000 ∧ 0 ≤ a ∧ a < b ∧ b ≤ am_len 21 ∧ b - a < 12 ∧ b < 900 ∧ 0 ≤ σ fX_alloc 0 0 then some (21 + 1000 * a + 1000000 * (b + 1), ga_up σ fX_alloc 0 0 (σ fX_alloc 0 0 + 1)) else none) = _
    rw [if_pos ⟨by decide, by decide, hab.1, hab.2.1, by rw [l21]; omega, hab.2.2.2, by omega, hx⟩, ← er, ← hs]
  obtain ⟨σ1, a1, a2, a3⟩ := k_tell1 (s := 9) (n := i) (DL_f A f0 (by decide)) (by omega) hw (d := d) (by omega)
  refine ⟨σ1, ?_, fr_trans (fr_sub f0 (by decide)) (fr_sub a2 (by decide)), ⟨by rw [a2 _ (by decide), er, up_eq]; omega, by rw [a2 _ (by decide), er, up_eq]⟩, a3⟩
  rw [e_w_clear_336, if_pos hi.2, s_p_idx (by omega) _ _ _ _ ⟨by decide, by decide, hab.1⟩, h1]
  simp only [Option.bind_some]
  rw [sb]
  simp only [Option.bind_some]
  rw [a1]
  simp only [Option.bind_some]
  rw [w32_ok (x := b + 1) (by omega), w32_ok (x := i + 1) (by omega)]
/-- the directions -/
theorem kc_G {σ : ga_S} (A : DL σ EC) (hx : 0 ≤ σ fX_alloc 0 0) {d : Nat} (hd : 4 ≤ d) : ∃ σ', w_clear_336 d σ 21 0 0 = w_clear_336 d σ' 21 30 6 ∧ fr diC σ σ' ∧ alR σ σ' 6 ∧ DL σ' EB := by
  obtain ⟨σ1, a1, a2, a3, a4⟩ := k_di A (by decide) hx li0 rfl ls0 (by decide) (i := 0) (by decide) hd
  obtain ⟨σ2, b1, b2, b3, b4⟩ := k_di a4 (by decide) a3.1 li1 rfl ls1 (by decide) (i := 1) (by decide) hd
  obtain ⟨σ3, c1, c2, c3, c4⟩ := k_di b4 (by decide) b3.1 li2 rfl ls2 (by decide) (i := 2) (by decide) hd
  obtain ⟨σ4, d1, d2, d3, d4⟩ := k_di c4 (by decide) c3.1 li3 rfl ls3 (by decide) (i := 3) (by decide) hd
  obtain ⟨σ5, e1, e2, e3, e4⟩ := k_di d4 (by decide) d3.1 li4 rfl ls4 (by decide) (i := 4) (by decide) hd
  obtain ⟨σ6, f1, f2, f3, f4⟩ := k_di e4 (by decide) e3.1 li5 rfl ls5 (by decide) (i := 5) (by decide) hd
  have y1 := a3.2
  have y2 := b3.2
  have y3 := c3.2
  have y4 := d3.2
  have y5 := e3.2
  have y6 := f3.2
  exact ⟨σ6, a1.trans (b1.trans (c1.trans (d1.trans (e1.trans f1)))), fr_trans a2 (fr_trans b2 (fr_trans c2 (fr_trans d2 (fr_trans e2 f2)))), ⟨f3.1, by omega⟩, f4⟩

/-! one reading; places; checks of the sorts 12, 13 -/
section
variable {σ0 τ0 : ga_S} {f : Int} {N : Nat}
/-- the note for so many readings -/
def cnC (σ0 : ga_S) (a T : Int) : Int := if T = 1 then 1000000 else if T = 0 then cd σ0 a 2 else cd σ0 a 3
theorem cnC_eq {a T : Int} {l : Nat} (h : eq3 T l) : cnC σ0 a T = cnC σ0 a (l : Int) := by
  unfold cnC
  obtain ⟨h0, h1, h2⟩ := h
  by_cases c : T = 1
  · rw [if_pos c, if_pos (by omega)]
  · rw [if_neg c, if_neg (c := (l : Int) = 1) (by omega)]
    by_cases c' : T = 0
    · rw [if_pos c', if_pos (c := (l : Int) = 0) (by omega)]
    · rw [if_neg c', if_neg (c := (l : Int) = 0) (by omega)]
theorem cnC_1 (E : TOK σ0 τ0 f N) {a T : Int} (ha : 0 ≤ a ∧ a ≤ N) (h : 1000000 ≤ cnC σ0 a T) : T = 1 := by
  have x := cd_r E ha (r := 2) (by omega)
  have y := cd_r E ha (r := 3) (by omega)
  unfold cnC at h
  by_cases c : T = 1
  · exact c
  · rw [if_neg c] at h
    by_cases c' : T = 0
    · rw [if_pos c'] at h; omega
    · rw [if_neg c'] at h; omega
theorem k_needDescription {σ : ga_S} (E : E0 σ0 τ0 f N) (K : KC σ0 σ) {c : Int} (hF : FT σ c) {a : Int} (ha : 0 ≤ a ∧ a ≤ N) (T : Int) {d : Nat} (hd : 2 ≤ d) : ∃ σ', c_r_needDescription d σ a T = some (0, σ') ∧ fr ntL σ σ' ∧ KC σ0 σ' ∧ FT σ' (min c (cnC σ0 a T)) := by
  obtain ⟨d, rfl⟩ : ∃ e, d = e + 1 := ⟨d - 1, by omega⟩
  rw [e_r_needDescription]
  unfold cnC
  by_cases z : T = 1
  · rw [if_pos z, if_pos z]
    have := FT_le hF
    rw [show min c 1000000 = c by omega]
    exact ⟨σ, rfl, fr_refl _ _, K, hF⟩
  · rw [if_neg z, if_neg z]
    by_cases y : T = 0
    · obtain ⟨σ', g1, g2, g3⟩ := k_note E.2.1 E.1.2.2.1 K hF (t := a) (r := 2) (why := 4) ha (by omega) (by decide) (d := d) (by omega)
      rw [if_pos y, if_pos y, e_r_needDescription_16, g1]
      exact ⟨σ', rfl, g2, KC_f K g2 (by decide), g3⟩
    · obtain ⟨σ', g1, g2, g3⟩ := k_note E.2.1 E.1.2.2.1 K hF (t := a) (r := 3) (why := 7) ha (by omega) (by decide) (d := d) (by omega)
      rw [if_neg y, if_neg y, e_r_needDescription_16, g1]
      exact ⟨σ', rfl, g2, KC_f K g2 (by decide), g3⟩
/-- need n > 0, need n < 2 -/
theorem m_two {τ : ga_S} (E : E0 σ0 τ0 f N) (K : KM τ0 τ) {c : Int} (hF : GT τ c) {a t n : Int} (ha : 0 ≤ a ∧ a ≤ N) (ht : t = f + a) (hn : 0 ≤ n) {d : Nat} (hd : 3 ≤ d) : ∃ τ1 τ2, c_m_need d τ (if 0 < n then 1 else 0) 4 t = some (0, τ1) ∧ c_m_need d τ1 (if n < 2 then 1 else 0) 7 t = some (0, τ2) ∧ fr ntM τ τ2 ∧ KM τ0 τ2 ∧ GT τ2 (min c (cnC σ0 a n)) ∧ fr ntM τ τ1 := by
  obtain ⟨τ1, e1, e2, e3, e4⟩ := m_need E K hF (t := a) (t' := t) (r := 2) (why := 4) (g := if 0 < n then 1 else 0) ha ht (by omega) (by decide) hd
  obtain ⟨τ2, g1, g2, g3, g4⟩ := m_need E e3 e4 (t := a) (t' := t) (r := 3) (why := 7) (g := if n < 2 then 1 else 0) ha ht (by omega) (by decide) hd
  refine ⟨τ1, τ2, e1, g1, fr_trans e2 g2, g3, ?_, e2⟩
  have x := cd_r E.2.1 ha (r := 2) (by omega)
  have y := cd_r E.2.1 ha (r := 3) (by omega)
  have le := GT_le hF
  have e : min (min c (if (if 0 < n then (1 : Int) else 0) = 0 then cd σ0 a 2 else 1000000)) (if (if n < 2 then (1 : Int) else 0) = 0 then cd σ0 a 3 else 1000000) = min c (cnC σ0 a n) := by
    unfold cnC
    by_cases z0 : 0 < n
    · by_cases z2 : n < 2
      · rw [if_pos z0, if_pos z2, if_neg (by decide), if_pos (show n = 1 by omega)]; omega
      · rw [if_pos z0, if_neg z2, if_neg (by decide), if_pos rfl, if_neg (show ¬ n = 1 by omega), if_neg (show ¬ n = 0 by omega)]; omega
    · rw [if_neg z0, if_pos (show n < 2 by omega), if_pos rfl, if_neg (by decide), if_neg (show ¬ n = 1 by omega), if_pos (show n = 0 by omega)]; omega
  rw [e] at g4
  exact g4
theorem m_oneReading {τ : ga_S} (E : E0 σ0 τ0 f N) (K : KM τ0 τ) {c : Int} (hF : GT τ c) {a t : Int} (ha : 0 ≤ a ∧ a ≤ N) (ht : t = f + a) (hn : 0 ≤ τ fM_readings 0 0) {d : Nat} (hd : 4 ≤ d) : ∃ τ', c_m_oneReading d τ t = some (0, τ') ∧ fr ntM τ τ' ∧ KM τ0 τ' ∧ GT τ' (min c (cnC σ0 a (τ fM_readings 0 0))) := by
  obtain ⟨d, rfl⟩ : ∃ e, d = e + 1 := ⟨d - 1, by omega⟩
  obtain ⟨τ1, τ2, e1, e2, e3, e4, e5, e6⟩ := m_two E K hF ha ht hn (d := d) (by omega)
  refine ⟨τ2, ?_, e3, e4, e5⟩
  have r1 : τ1 fM_readings 0 0 = τ fM_readings 0 0 := by rw [e6 _ (by decide)]
  rw [e_m_oneReading, if_app (m_oneReading_13 d τ t), e_m_oneReading_13, e1]
  simp only [Option.bind_some]
  rw [r1, if_app (m_oneReading_32 d τ1 t), e_m_oneReading_32, e2]
  rfl
/-- where something may be -/
def mayH (σ0 : ga_S) (ps k : Int) : Bool := if ps = 1 then (isB (σ0 fW_parents 0) k 2 || isB (σ0 fW_parents 0) k 1) else isB (σ0 fW_parents 0) k (if ps = 2 then 3 else if ps = 3 then 0 else 4)
def plCd (σ0 : ga_S) (nm : List Int) (ps a : Int) : Int := if dN σ0 nm 2 = -1 ∨ mayH σ0 ps (σ0 fW_kindOf 0 (dN σ0 nm 2)) = false then cd σ0 a 2 else 1000000
theorem k_isKind {σ : ga_S} (E : E0 σ0 τ0 f N) (K : KC σ0 σ) {o : Int} (ho : 0 ≤ o ∧ o < σ0 fW_objects 0 0) (k : Int) {d : Nat} (hd : 2 ≤ d) : c_w_isKind d σ o k = some (b2i (isB (σ0 fW_parents 0) (σ0 fW_kindOf 0 o) k), σ) := by
  have wk := e0_k E
  have wo := e0_o E
  have oo := wo.2.2.2 o ho.1 ho.2
  have o24 := wo.2.1
  have hF : FO (σ fW_parents 0) (σ0 fW_kinds 0 0) := by rw [K.1 _ (by decide)]; exact wk.1
  rw [s_w_isKind hF hd k (by omega) (by rw [K.1 _ (by decide)]; omega) (by rw [K.1 _ (by decide)]; exact oo.2.1), K.1 fW_parents (by decide), K.1 fW_kindOf (by decide)]
theorem k_place {σ : ga_S} (E : E0 σ0 τ0 f N) (K : KC σ0 σ) {c : Int} (hF : FT σ c) {a b ps : Int} (hb : frB σ0 N a b) (h1 : σ fR_placeFrom 0 0 = a) (h2 : σ fR_placeTo 0 0 = b) (h3 : σ fR_placeSort 0 0 = ps) {d : Nat} (hd : 6 ≤ d) : ∃ σ', c_r_place d σ = some (0, σ') ∧ fr (fR_object0 :: ndL) σ σ' ∧ KC σ0 σ' ∧ FT σ' (min c (plCd σ0 (nmT σ0 a b) ps a)) ∧ σ' fR_object0 0 0 = dN σ0 (nmT σ0 a b) 2 := by
  obtain ⟨d, rfl⟩ : ∃ e, d = e + 1 := ⟨d - 1, by omega⟩
  have ha := frB_t hb
  obtain ⟨nm, enm⟩ : ∃ x, x = nmT σ0 a b := ⟨_, rfl⟩
  obtain ⟨σ1, a1, a2, a3, a4⟩ := k_need E K hF hb (d := d) (by omega) 2
  rw [← enm] at a1 a4 ⊢
  obtain ⟨σ2, e2⟩ : ∃ x, x = ga_up σ1 fR_object0 0 0 (dN σ0 nm 2) := ⟨_, rfl⟩
  have f2 : fr [fR_object0] σ1 σ2 := by rw [e2]; exact fr_u (by decide)
  have K2 := KC_f a3 f2 (by decide)
  have F2 := FT_f a4 f2 (by decide)
  have f02 : fr (fR_object0 :: ndL) σ σ2 := fr_trans (fr_sub a2 (by decide)) (fr_sub f2 (by decide))
  have o2 : σ2 fR_object0 0 0 = dN σ0 nm 2 := by rw [e2, up_eq]
  have ro := e0_dN E nm 2
  have mo : mxN σ0 2 = σ0 fW_objects 0 0 := rfl
  rw [e_r_place, h1, h2, a1]
  simp only [Option.bind_some]
  rw [← e2, show σ1 fR_placeSort 0 0 = ps by rw [a2 _ (by decide)]; exact h3]
  by_cases z : dN σ0 nm 2 = -1
  · have eC : plCd σ0 nm ps a = cd σ0 a 2 := by unfold plCd; rw [if_pos (Or.inl z)]
    rw [if_pos z] at F2
    rw [if_pos z, eC]
    exact ⟨σ2, rfl, f02, K2, F2, o2⟩
  · have ho : 0 ≤ dN σ0 nm 2 ∧ dN σ0 nm 2 < σ0 fW_objects 0 0 := by omega
    rw [if_neg z] at F2
    have le := FT_le hF
    rw [show min c 1000000 = c by omega] at F2
    have p2 : σ2 fR_placeFrom 0 0 = a := by rw [f02 _ (by decide)]; exact h1
    have fin : ∀ g : Bool, mayH σ0 ps (σ0 fW_kindOf 0 (dN σ0 nm 2)) = g → ∃ σ', r_place_114 d σ2 (b2i g) = some (0, σ') ∧ fr (fR_object0 :: ndL) σ σ' ∧ KC σ0 σ' ∧ FT σ' (min c (plCd σ0 nm ps a)) ∧ σ' fR_object0 0 0 = dN σ0 nm 2 := by
      intro g hg
      rw [e_r_place_114]
      cases g with
      | true =>
        have eC : plCd σ0 nm ps a = 1000000 := by unfold plCd; rw [if_neg (fun y => by rcases y with y | y; exact z y; rw [hg] at y; cases y)]
        rw [if_neg b2i_n, eC, show min c 1000000 = c by omega]
        exact ⟨σ2, rfl, f02, K2, F2, o2⟩
      | false =>
        have eC : plCd σ0 nm ps a = cd σ0 a 2 := by unfold plCd; rw [if_pos (Or.inr hg)]
        obtain ⟨σ', g1, g2, g3⟩ := k_note E.2.1 E.1.2.2.1 K2 F2 (t := a) (r := 2) (why := 4) ha (by omega) (by decide) (d := d) (by omega)
        rw [if_pos b2i_f, p2, g1, eC]
        exact ⟨σ', rfl, fr_trans f02 (fr_sub g2 (by decide)), KC_f K2 g2 (by decide), g3, by rw [g2 _ (by decide)]; exact o2⟩
    have ik := fun k => k_isKind E K2 ho k (d := d) (by omega)
    rw [if_neg z]
    unfold mayH at fin
    by_cases q1 : ps = 1
    · rw [if_pos q1] at fin
      rw [if_pos q1, ik 2]
      simp only [Option.bind_some]
      cases x : isB (σ0 fW_parents 0) (σ0 fW_kindOf 0 (dN σ0 nm 2)) 2 with
      | true => rw [if_neg b2i_n, e_r_place_57]; exact fin true (by rw [x]; rfl)
      | false =>
        rw [if_pos b2i_f, ik 1]
        simp only [Option.bind_some]
        cases y : isB (σ0 fW_parents 0) (σ0 fW_kindOf 0 (dN σ0 nm 2)) 1 with
        | true => rw [if_neg b2i_n, e_r_place_57]; exact fin true (by rw [x, y]; rfl)
        | false => rw [if_pos b2i_f]; exact fin false (by rw [x, y]; rfl)
    · rw [if_neg q1] at fin
      rw [if_neg q1]
      by_cases q2 : ps = 2
      · rw [if_pos q2] at fin
        rw [if_pos q2, ik 3]
        simp only [Option.bind_some]
        exact fin _ rfl
      · rw [if_neg q2] at fin
        rw [if_neg q2]
        by_cases q3 : ps = 3
        · rw [if_pos q3] at fin
          rw [if_pos q3, ik 0]
          simp only [Option.bind_some]
          exact fin _ rfl
        · rw [if_neg q3] at fin
          rw [if_neg q3, ik 4]
          simp only [Option.bind_some]
          exact fin _ rfl
theorem m_mayHold {τ : ga_S} (E : E0 σ0 τ0 f N) (K : KM τ0 τ) {k : Int} (hk : 0 ≤ k ∧ k < σ0 fW_kinds 0 0) (ps : Int) {d : Nat} (hd : 2 ≤ d) : c_m_mayHold d τ ps k = some (b2i (mayH σ0 ps k), τ) := by
  obtain ⟨d, rfl⟩ : ∃ e, d = e + 1 := ⟨d - 1, by omega⟩
  obtain ⟨e, rfl⟩ : ∃ e, d = e + 1 := ⟨d - 1, by omega⟩
  have wk := e0_k E
  have hp : ∀ k, 0 ≤ k → k < σ0 fW_kinds 0 0 → τ fM_above 0 k = σ0 fW_parents 0 k := fun k h0 h1 => by rw [K _ (by decide)]; exact wk.2.2.2.1 k h0 h1
  have ib := fun a => s_m_isBelow wk.1 hp (d := e + 1) (by omega) a (show -1 ≤ k by omega) hk.2
  rw [e_m_mayHold]
  unfold mayH
  by_cases q1 : ps = 1
  · rw [if_pos q1, if_pos q1, ib 1]
    simp only [Option.bind_some]
    cases x : isB (σ0 fW_parents 0) k 1 with
    | true => rw [if_neg b2i_n, e_m_mayHold_23, Bool.or_true]; rfl
    | false =>
      rw [if_pos b2i_f, ib 2, Bool.or_false]
      simp only [Option.bind_some]
      cases y : isB (σ0 fW_parents 0) k 2 with
      | true => rw [if_neg b2i_n, e_m_mayHold_23]; rfl
      | false => rw [if_pos b2i_f]; rfl
  · have kw : c_m_kindOfWay (e + 1) τ ps = some ((if ps = 2 then 3 else if ps = 3 then 0 else 4), τ) := by
      rw [e_m_kindOfWay]
      by_cases q2 : ps = 2
      · rw [if_pos q2, if_pos q2]
      · rw [if_neg q2, if_neg q2]
        by_cases q3 : ps = 3
        · rw [if_pos q3, if_pos q3]
        · rw [if_neg q3, if_neg q3]
    rw [if_neg q1, if_neg q1, kw]
    simp only [Option.bind_some]
    rw [ib]
    simp only [Option.bind_some]
    rw [z1_ok _ (b2i_01 _)]
theorem m_askPlace {τ : ga_S} (E : E0 σ0 τ0 f N) (K : KM τ0 τ) {c : Int} (hF : GT τ c) {r a b ps : Int} (hr : RU σ0 τ0 f N r a b) (h1 : τ0 fM_placeRun 0 0 = r) (h2 : τ0 fM_placeWay 0 0 = ps) (hps : ps ≠ 0) {d : Nat} (hd : 5 ≤ d) : ∃ τ', c_m_askPlace d τ = some (0, τ') ∧ fr ntM τ τ' ∧ KM τ0 τ' ∧ GT τ' (min c (plCd σ0 (nmT σ0 a b) ps a)) := by
  obtain ⟨d, rfl⟩ : ∃ e, d = e + 1 := ⟨d - 1, by omega⟩
  have ha := frB_t hr.2.2.2
  obtain ⟨nm, enm⟩ : ∃ x, x = nmT σ0 a b := ⟨_, rfl⟩
  have ro := e0_dN E nm 2
  have mo : mxN σ0 2 = σ0 fW_objects 0 0 := rfl
  have wo := e0_o E
  have o24 := wo.2.1
  obtain ⟨τ1, e1, e2, e3, e4⟩ := m_needI E K hF (dN σ0 nm 2 = -1 ∨ mayH σ0 ps (σ0 fW_kindOf 0 (dN σ0 nm 2)) = false) ha hr.2.1 (r := 2) (why := 4) (by omega) (by decide) (d := d) (by omega)
  have s46 : m_askPlace_46 d τ (if dN σ0 nm 2 = -1 ∨ mayH σ0 ps (σ0 fW_kindOf 0 (dN σ0 nm 2)) = false then 0 else 1) = some (0, τ1) := by
    rw [e_m_askPlace_46, K fM_placeRun (by decide), h1, ck_ok _ hr.1, K fM_runFrom (by decide), e1]; rfl
  refine ⟨τ1, ?_, e2, e3, by unfold plCd; rw [← enm]; exact e4⟩
  rw [e_m_askPlace, K fM_placeWay (by decide), h2, if_neg hps, K fM_placeRun (by decide), h1, m_meansRun E K hr.2.2.2 hr.1 hr.2.1 hr.2.2.1 (by omega), mN_dN (s := 2) (by omega), ← enm]
  simp only [Option.bind_some]
  by_cases z : dN σ0 nm 2 = -1
  · rw [if_pos (Or.inl z)] at s46
    rw [if_pos z, e_m_askPlace_45, s46]
  · have oo := wo.2.2.2 (dN σ0 nm 2) (by omega) (by omega)
    rw [if_neg z, ck_ok _ (by omega), K fM_placeWay (by decide), h2, K fM_kindOf (by decide), oo.2.2, m_mayHold E K ⟨oo.1, oo.2.1⟩ ps (by omega)]
    simp only [Option.bind_some]
    cases q : mayH σ0 ps (σ0 fW_kindOf 0 (dN σ0 nm 2)) with
    | true =>
      rw [if_neg (fun y => by rcases y with y | y; exact z y; rw [q] at y; cases y)] at s46
      rw [if_neg b2i_n, s46]
    | false =>
      rw [if_pos (Or.inr q)] at s46
      rw [if_pos b2i_f, e_m_askPlace_45, s46]
end
/-- what an act needs of a list of objects -/
def obAll (σ : ga_S) : Prop := ∀ j, 0 ≤ j → j < σ fR_names 0 0 → obN σ (fun k => σ fR_nameFrom 0 k) (fun k => σ fR_nameTo 0 k) j
/-- the one reading of a description, on both sides -/
def rdOne (σ' τ' : ga_S) (P : Int × List Int) : Prop := σ' fR_describedKind 0 0 = P.1 ∧ σ' fR_described 0 0 = (P.2.length : Int) ∧ (∀ i : Nat, i < P.2.length → rdR (σ' fR_describedWhich 0 i) (σ' fR_describedValue 0 i) (P.2.getD i 0)) ∧ τ' fM_readKind 0 0 = P.1 ∧ τ' fM_readCount 0 0 = (P.2.length : Int) ∧ (∀ i : Nat, i < P.2.length → τ' fM_readAdjective 0 i = P.2.getD i 0)
theorem ck_13 {σ τ : ga_S} {f : Int} {N : Nat} (E : E0 σ τ f N) (hf : σ fR_fault 0 0 = 0) (hm : 2 * τ fM_runs 0 0 ≤ 5001) (hs : σ fR_sort 0 0 = 13) (ht : τ fM_sort 0 0 = 13) (hn : ∀ k, 0 ≤ k → k < σ fR_names 0 0 → nn σ τ f k k) (ho : oN σ) (hn1 : 1 ≤ σ fR_names 0 0) (hl : τ fM_listFrom 0 0 = 0 ∧ τ fM_listSize 0 0 = σ fR_names 0 0) (hp : plR σ τ f) {d : Nat} (hd : 9 ≤ d) (first : Int) : ckX σ τ (c_r_check d σ) (c_m_asked d τ first) (fun σ' _ => obAll σ ∧ σ' fR_object0 0 0 = dN σ (nmT σ (σ fR_placeFrom 0 0) (σ fR_placeTo 0 0)) 2 ∧ dN σ (nmT σ (σ fR_placeFrom 0 0) (σ fR_placeTo 0 0)) 2 ≠ -1 ∧ mayH σ (σ fR_placeSort 0 0) (σ fW_kindOf 0 (dN σ (nmT σ (σ fR_placeFrom 0 0) (σ fR_placeTo 0 0)) 2)) = true ∧ σ' fR_isDescribed 0 0 = 0) := by
  obtain ⟨d, rfl⟩ : ∃ e, d = e + 1 := ⟨d - 1, by omega⟩
  obtain ⟨K1, F1, O1, q1, S1, _, _, x8, _⟩ := k0_ok hf N
  obtain ⟨M1, G1, Q1, p1, T1, _⟩ := a0_ok σ τ f N
  have hL := LST_n E hm hn ho
  have RP := RU_of E.1 hp.2.2.2 (by omega)
  have tp := frB_t RP.2.2.2
  obtain ⟨σ2, τ2, c, a1, a2, a3, a4, a5, a6, a7, a8, a9⟩ := obs_all E (by omega) hL hl K1 M1 F1 G1 q1 p1 (k0_fr σ _ (by decide)) (k0_fr σ _ (by decide)) (d := d) (d' := d) (by omega) (by omega)
  have le := GT_le a8
  rw [show min 1000000 c = c by omega] at a7
  have F : ∀ G, G ∉ nwL → G ∉ k0L → σ2 G = σ G := fun G a b => (a3 G a).trans (k0_fr σ G b)
  obtain ⟨σ3, b1, b2, b3, b4, b5⟩ := k_place E a5 a7 RP.2.2.2 (ps := σ fR_placeSort 0 0) (by rw [F _ (by decide) (by decide)]) (by rw [F _ (by decide) (by decide)]) (by rw [F _ (by decide) (by decide)]) (d := d) (by omega)
  obtain ⟨τ3, c1, c2, c3, c4⟩ := m_askPlace E a6 a8 RP rfl hp.2.2.1 (by have := hp.1; omega) (d := d) (by omega)
  refine ⟨σ3, τ3, _, ?_, ?_, b3, c3, b4, c4, (fr_trans (fr_sub (k0_fr σ) (by decide)) (fr_trans (fr_sub a3 (by decide)) (fr_sub b2 (by decide)))), (fr_trans (fr_sub (a0_fr τ) (by decide)) (fr_trans (fr_sub a4 (by decide)) (fr_sub c2 (by decide)))), fun z => ?_⟩
  · rw [e_r_check, hs]
    iterate 13 rw [if_neg (by decide)]
    rw [if_pos rfl]
    show ((c_r_objectsOrNew d (k0 σ) 1 (σ fR_names 0 0)).bind _) = _
    rw [a1]
    simp only [Option.bind_some]
    rw [b1]; rfl
  · rw [e_m_asked, ht]
    iterate 13 rw [if_neg (by decide)]
    rw [if_pos rfl]
    show ((c_m_objectsOrNew d (a0 τ)).bind _) = _
    rw [a2]
    simp only [Option.bind_some]
    rw [c1]; rfl
  · have z1 := no_min rfl z le
    have y := no_if z1.2 (cd_r E.2.1 tp (by omega)).2
    refine ⟨a9 z1.1, b5, fun w => y (Or.inl w), ?_, ?_⟩
    · cases q : mayH σ (σ fR_placeSort 0 0) (σ fW_kindOf 0 (dN σ (nmT σ (σ fR_placeFrom 0 0) (σ fR_placeTo 0 0)) 2)) with
      | true => rfl
      | false => exact absurd (Or.inr q) y
    · rw [b2 _ (by decide), a3 _ (by decide)]; exact x8
theorem ck_12 {σ τ : ga_S} {f : Int} {N : Nat} (E : E0 σ τ f N) (hf : σ fR_fault 0 0 = 0) (hm : 2 * τ fM_runs 0 0 ≤ 5001) (hs : σ fR_sort 0 0 = 12) (ht : τ fM_sort 0 0 = 12) (hn : ∀ k, 0 ≤ k → k < σ fR_names 0 0 → nn σ τ f k k) (ho : oN σ) (hn1 : 1 ≤ σ fR_names 0 0) (hl : τ fM_listFrom 0 0 = 0 ∧ τ fM_listSize 0 0 = σ fR_names 0 0) (hr : rr σ τ f 0 (τ fM_what 0 0)) (hp : (σ fR_placeSort 0 0 = 0 ∧ τ fM_placeWay 0 0 = 0) ∨ plR σ τ f) {d : Nat} (hd : 14 ≤ d) (first : Int) : ckX σ τ (c_r_check d σ) (c_m_asked d τ first) (fun σ' τ' => obAll σ ∧ (∃ P, dsA σ false false (-1) (σ fR_runFrom 0 0) (σ fR_runTo 0 0) = [P] ∧ rdOne σ' τ' P) ∧ σ' fR_isDescribed 0 0 = 1 ∧ (σ fR_placeSort 0 0 = 0 ∨ (σ' fR_object0 0 0 = dN σ (nmT σ (σ fR_placeFrom 0 0) (σ fR_placeTo 0 0)) 2 ∧ dN σ (nmT σ (σ fR_placeFrom 0 0) (σ fR_placeTo 0 0)) 2 ≠ -1 ∧ mayH σ (σ fR_placeSort 0 0) (σ fW_kindOf 0 (dN σ (nmT σ (σ fR_placeFrom 0 0) (σ fR_placeTo 0 0)) 2)) = true))) := by
  obtain ⟨d, rfl⟩ : ∃ e, d = e + 1 := ⟨d - 1, by omega⟩
  obtain ⟨K1, F1, O1, q1, S1, _⟩ := k0_ok hf N
  obtain ⟨M1, G1, Q1, p1, T1, _⟩ := a0_ok σ τ f N
  have hL := LST_n E hm hn ho
  have R0 := RU_of E.1 hr (by omega)
  have t0 := frB_t R0.2.2.2
  obtain ⟨Ds, eDs⟩ : ∃ x, x = dsA σ false false (-1) (σ fR_runFrom 0 0) (σ fR_runTo 0 0) := ⟨_, rfl⟩
  -- the component: description first
  obtain ⟨T, σ2, a1, a2, _⟩ := k_description E R0.2.2.2 false false (al := -1) (Or.inl rfl) K1 (d := d) (by omega)
  rw [← eDs] at a2
  have F2 := FT_f F1 a2.1 (by decide)
  have T3 := a2.2.2.1
  rw [List.length_reverse] at T3
  obtain ⟨σ3, b1, b2, b3, b4⟩ := k_needDescription E a2.2.1 F2 t0 T (d := d) (by omega)
  rw [cnC_eq T3] at b4
  obtain ⟨X, eX⟩ : ∃ x, x = min 1000000 (cnC σ (σ fR_runFrom 0 0) (Ds.length : Int)) := ⟨_, rfl⟩
  rw [← eX] at b4
  obtain ⟨σ4, e4⟩ : ∃ x, x = ga_up σ3 fR_isDescribed 0 0 1 := ⟨_, rfl⟩
  have f4 : fr [fR_isDescribed] σ3 σ4 := by rw [e4]; exact fr_u (by decide)
  have f14 : fr (fR_isDescribed :: fR_fault :: fR_where :: fR_rank :: dsF) (k0 σ) σ4 := fr_trans (fr_sub a2.1 (by decide)) (fr_trans (fr_sub b2 (by decide)) (fr_sub f4 (by decide)))
  -- objects
  obtain ⟨σ5, τ5, c, c1, c2, c3, c4, c5, c6, c7, c8, c9⟩ := obs_all E (by omega) hL hl (KC_f b3 f4 (by decide)) M1 (FT_f b4 f4 (by decide)) G1 (by rw [f14 _ (by decide)]; exact q1) p1 ((f14 _ (by decide)).trans (k0_fr σ _ (by decide))) ((f14 _ (by decide)).trans (k0_fr σ _ (by decide))) (d := d) (d' := d) (by omega) (by omega)
  have lec := GT_le c8
  have F5 : ∀ G, G ∉ nwL → G ∉ (fR_isDescribed :: fR_fault :: fR_where :: fR_rank :: dsF) → G ∉ k0L → σ5 G = σ G := fun G a b c => (c3 G a).trans ((f14 G b).trans (k0_fr σ G c))
  -- the model: its description
  obtain ⟨τ6, e6⟩ : ∃ x, x = ga_up τ5 fM_readings 0 0 0 := ⟨_, rfl⟩
  have g6 : fr [fM_readings] τ5 τ6 := by rw [e6]; exact fr_u (by decide)
  obtain ⟨τ7, d1, d2⟩ := m_describe E R0.2.2.2 (t := f + σ fR_runFrom 0 0) (n := σ fR_runTo 0 0 - σ fR_runFrom 0 0) rfl rfl false false (al := -1) (KM_f c6 g6 (by decide)) (by rw [e6, up_eq]) (d := d) (by omega)
  rw [← eDs] at d2
  have r7 : τ7 fM_readings 0 0 = (Ds.length : Int) := by rw [d2.2.2.1, e6, up_eq, Int.zero_add]
  obtain ⟨τ8, h1, h2, h3, h4⟩ := m_oneReading E d2.2.1 (GT_f (GT_f c8 g6 (by decide)) d2.1 (by decide)) t0 (t := f + σ fR_runFrom 0 0) rfl (by rw [r7]; omega) (d := d) (by omega)
  rw [r7] at h4
  have h4' : GT τ8 (min X c) := by
    rw [show min X c = min c (cnC σ (σ fR_runFrom 0 0) (Ds.length : Int)) by omega]; exact h4
  have wt : τ fM_what 0 0 = τ fM_what 0 0 := rfl
  have hC : ∀ σ9, (if σ fR_placeSort 0 0 = 0 then some ((0 : Int), σ5) else (c_r_place d σ5).bind fun q17 => some (0, q17.2)) = some (0, σ9) → c_r_check (d + 1) σ = some (0, σ9) := by
    intro σ9 h9
    rw [e_r_check, hs]
    iterate 12 rw [if_neg (by decide)]
    rw [if_pos rfl]
    show ((c_r_description d (k0 σ) (σ fR_runFrom 0 0) (σ fR_runTo 0 0) (b2i false) (b2i false) (-1)).bind _) = _
    rw [a1]
    simp only [Option.bind_some]
    rw [b1]
    simp only [Option.bind_some]
    rw [← e4, show σ3 fR_names 0 0 = σ fR_names 0 0 by rw [b2 _ (by decide), a2.1 _ (by decide), k0_fr σ _ (by decide)], c1]
    simp only [Option.bind_some]
    rw [F5 fR_placeSort (by decide) (by decide) (by decide)]
    exact h9
  have hM : ∀ τ9, c_m_askPlace d τ8 = some (0, τ9) → c_m_asked (d + 1) τ first = some (0, τ9) := by
    intro τ9 h9
    have w5 : τ5 fM_what 0 0 = τ fM_what 0 0 := by rw [c6 _ (by decide)]
    have w7 : τ7 fM_what 0 0 = τ fM_what 0 0 := by rw [d2.2.1 _ (by decide)]
    rw [e_m_asked, ht]
    iterate 12 rw [if_neg (by decide)]
    rw [if_pos rfl]
    show ((c_m_objectsOrNew d (a0 τ)).bind _) = _
    rw [c2]
    simp only [Option.bind_some]
    rw [w5, ck_ok _ R0.1, ck_ok _ R0.1, ← e6, c6 fM_runFrom (by decide), c6 fM_runSize (by decide), R0.2.1, R0.2.2.1]
    rw [b2i_f] at d1
    rw [d1]
    simp only [Option.bind_some]
    rw [w7, ck_ok _ R0.1, d2.2.1 fM_runFrom (by decide), R0.2.1, h1]
    simp only [Option.bind_some]
    rw [h9]; rfl
  -- what is known where no note is
  have done : ∀ σ9 τ9, fr (fR_object0 :: ndL) σ5 σ9 → fr ntM τ8 τ9 → min X c = 1000000 → obAll σ ∧ (∃ P, Ds = [P] ∧ rdOne σ9 τ9 P) ∧ σ9 fR_isDescribed 0 0 = 1 := by
    intro σ9 τ9 k9 m9 z
    have z1 := no_min rfl (show min c X = 1000000 by omega) lec
    have z2 : 1000000 ≤ cnC σ (σ fR_runFrom 0 0) (Ds.length : Int) := by have := z1.2; omega
    have l1 := cnC_1 E.2.1 t0 z2
    obtain ⟨P, hP⟩ := List.length_eq_one_iff.mp (show Ds.length = 1 by omega)
    have uC := a2.2.2.2 P (by rw [hP]; rfl)
    have uM := d2.2.2.2.2 (by rw [e6, up_eq]) P [] hP
    have kk : ∀ G, G ∉ (fR_object0 :: ndL) → G ∉ nwL → G ∉ [fR_isDescribed] → G ∉ ntL → σ9 G = σ2 G := fun G x1 x2 x3 x4 => (k9 G x1).trans ((c3 G x2).trans ((f4 G x3).trans (b2 G x4)))
    have mk : ∀ G, G ∉ ntM → τ9 G = τ7 G := fun G x => (m9 G x).trans (h2 G x)
    refine ⟨c9 (by omega), ⟨P, hP, ?_⟩, ?_⟩
    · unfold rdOne
      rw [kk fR_describedKind (by decide) (by decide) (by decide) (by decide), kk fR_described (by decide) (by decide) (by decide) (by decide), kk fR_describedWhich (by decide) (by decide) (by decide) (by decide), kk fR_describedValue (by decide) (by decide) (by decide) (by decide), mk fM_readKind (by decide), mk fM_readCount (by decide), mk fM_readAdjective (by decide)]
      exact ⟨uC.1, uC.2.1, uC.2.2, uM.1, uM.2.1, uM.2.2⟩
    · rw [k9 _ (by decide), c3 _ (by decide), e4, up_eq]
  rw [← eDs]
  rcases hp with ⟨hp1, hp2⟩ | hp
  · refine ⟨σ5, τ8, min X c, hC σ5 (by rw [if_pos hp1]), hM τ8 ?_, c5, h3, c7, h4', (fr_trans (fr_sub (k0_fr σ) (by decide)) (fr_trans (fr_sub f14 (by decide)) (fr_sub c3 (by decide)))), (fr_trans (fr_sub (a0_fr τ) (by decide)) (fr_trans (fr_sub c4 (by decide)) (fr_trans (fr_sub g6 (by decide)) (fr_trans (fr_sub d2.1 (by decide)) (fr_sub h2 (by decide)))))), fun z => ?_⟩
    · obtain ⟨d, rfl⟩ : ∃ e, d = e + 1 := ⟨d - 1, by omega⟩
      rw [e_m_askPlace, h3 fM_placeWay (by decide), hp2, if_pos rfl]
    · have u := done σ5 τ8 (fr_refl _ _) (fr_refl _ _) z
      exact ⟨u.1, u.2.1, u.2.2, Or.inl hp1⟩
  · have RP := RU_of E.1 hp.2.2.2 (by omega)
    have tp := frB_t RP.2.2.2
    have ps1 := hp.1
    obtain ⟨σ6, i1, i2, i3, i4, i5⟩ := k_place E c5 c7 RP.2.2.2 (ps := σ fR_placeSort 0 0) (by rw [F5 _ (by decide) (by decide) (by decide)]) (by rw [F5 _ (by decide) (by decide) (by decide)]) (by rw [F5 _ (by decide) (by decide) (by decide)]) (d := d) (by omega)
    obtain ⟨τ9, j1, j2, j3, j4⟩ := m_askPlace E h3 h4' RP rfl hp.2.2.1 (by omega) (d := d) (by omega)
    refine ⟨σ6, τ9, _, hC σ6 (by rw [if_neg (by omega), i1]; rfl), hM τ9 j1, i3, j3, i4, j4, (fr_trans (fr_sub (k0_fr σ) (by decide)) (fr_trans (fr_sub f14 (by decide)) (fr_trans (fr_sub c3 (by decide)) (fr_sub i2 (by decide))))), (fr_trans (fr_sub (a0_fr τ) (by decide)) (fr_trans (fr_sub c4 (by decide)) (fr_trans (fr_sub g6 (by decide)) (fr_trans (fr_sub d2.1 (by decide)) (fr_trans (fr_sub h2 (by decide)) (fr_sub j2 (by decide))))))), fun z => ?_⟩
    have z1 := no_min rfl z (by omega)
    have y := no_if z1.2 (cd_r E.2.1 tp (by omega)).2
    have u := done σ6 τ9 i2 j2 z1.1
    refine ⟨u.1, u.2.1, u.2.2, Or.inr ⟨i5, fun w => y (Or.inl w), ?_⟩⟩
    cases q : mayH σ (σ fR_placeSort 0 0) (σ fW_kindOf 0 (dN σ (nmT σ (σ fR_placeFrom 0 0) (σ fR_placeTo 0 0)) 2)) with
    | true => rfl
    | false => exact absurd (Or.inr q) y

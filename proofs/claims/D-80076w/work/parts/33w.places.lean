/-! the act of described and placed objects -/
section
variable {σ τ : ga_S} {f : Int} {N : Nat}
/-- once there is a fault the model does nothing more -/
theorem m_stop {υ : ga_S} (hb : υ fM_bestFault 0 0 ≠ 0) (k r o : Int) (hk : 0 ≤ k ∧ k < 5000) (d : Nat) : m_doDescribed_182 d υ k r o = some (0, υ) ∧ (∀ i, m_doDescribed_133 d υ k r o i = some (0, υ)) ∧ m_doDescribed_130 d υ k r o = some (0, υ) ∧ ∀ k, m_doDescribed_2 d υ k = some (0, υ) := by
  have s2 : ∀ k, m_doDescribed_2 d υ k = some (0, υ) := by
    intro k
    rw [e_m_doDescribed_2]
    by_cases c : k < υ fM_listSize 0 0
    · rw [if_pos c, if_neg hb]
    · rw [if_neg c]
  have s1 : m_doDescribed_182 d υ k r o = some (0, υ) := by
    rw [e_m_doDescribed_182]
    by_cases c : 0 < υ fM_placeWay 0 0
    · rw [if_pos c, if_neg hb, e_m_doDescribed_207, s2]
    · rw [if_neg c, e_m_doDescribed_207, s2]
  have s3 : ∀ i, m_doDescribed_133 d υ k r o i = some (0, υ) := by
    intro i
    rw [e_m_doDescribed_133]
    by_cases c : i < υ fM_readCount 0 0
    · rw [if_pos c, if_neg hb, s1]
    · rw [if_neg c, s1]
  exact ⟨s1, s3, by rw [e_m_doDescribed_130, s3], s2⟩
def pcC : List Nat := ojC ++ itC
def pcM : List Nat := ojM ++ itM ++ [fM_described, fM_bestFault, fM_bestPlace]
/-- the words of the description, on both sides -/
def dsR (σ τ : ga_S) (m : Int) (w v c : Int → Int) : Prop := 0 ≤ m ∧ m ≤ 6 ∧ σ fR_described 0 0 = m ∧ τ fM_readCount 0 0 = m ∧ ∀ i, 0 ≤ i → i < m → σ fR_describedWhich 0 i = w i ∧ σ fR_describedValue 0 i = v i ∧ τ fM_readAdjective 0 i = c i
/-- what the sentence holds while it acts -/
def pcS (σ τ0 ρ υ : ga_S) : Prop := fr pcC σ ρ ∧ fr pcM τ0 υ ∧ ρ fR_fault 0 0 = 0 ∧ υ fM_bestFault 0 0 = 0
theorem it_loop {τ0 : ga_S} (ET : ENV σ τ f N ∧ TOK σ τ f N) {g : Int} {o k r t m : Int} {w v c : Int → Int} (hds : dsR σ τ0 m w v c) (hio : ∀ i, 0 ≤ i → i < m → itO σ (w i) (v i) (c i)) (hk : 0 ≤ k ∧ k < 5000) (hr : 0 ≤ r ∧ r < 2600) (hst : τ0 fM_story 0 = σ fT_bytes 0) (hnf : σ fR_nameFrom 0 k = t) (ht : 0 ≤ t ∧ t ≤ N) (hrf : τ0 fM_runFrom 0 r = f + t) {d d' : Nat} (hd : 3 ≤ d) (hd' : 4 ≤ d') : ∀ i, 0 ≤ i → i ≤ m → ∀ ρ υ, AW σ τ g ρ υ → pcS σ τ0 ρ υ → 0 ≤ o ∧ o < ρ fW_objects 0 0 → (∃ ρ' υ', r_places_60 d ρ k o i = r_places_137 d ρ' k o ∧ m_doDescribed_133 d' υ k r o i = m_doDescribed_182 d' υ' k r o ∧ AW σ τ g ρ' υ' ∧ fr (fW_told :: stW) ρ ρ' ∧ fr itM υ υ') ∨ (∃ ρ' υ', r_places_60 d ρ k o i = some (0, ρ') ∧ m_doDescribed_133 d' υ k r o i = some (0, υ') ∧ AF ρ' υ' 5 (σ fT_places 0 t) ∧ fr pcC σ ρ' ∧ fr pcM τ0 υ') := by
  obtain ⟨m0, m6, ds1, ds2, ds3⟩ := hds
  have hN5 := ET.1.2.2.1
  have fN := ET.1.2.1
  have f0 := ET.1.1
  refine rg_ind (n := m) ?_ ?_
  · intro i h h0 h1 ρ υ A S ho
    refine Or.inl ⟨ρ, υ, ?_, ?_, A, fr_refl _ _, fr_refl _ _⟩
    · rw [e_r_places_60, S.1 fR_described (by decide), ds1, if_neg (by omega)]
    · rw [e_m_doDescribed_133, S.2.1 fM_readCount (by decide), ds2, if_neg (by omega)]
  · intro i h ih h0 h1 ρ υ A S ho
    have S' := S
    obtain ⟨S1, S2, S3, S4⟩ := S'
    obtain ⟨x1, x2, x3⟩ := ds3 i h0 h
    have io : itO ρ (w i) (v i) (c i) := by
      have := hio i h0 h
      unfold itO at this ⊢
      rw [S1 fW_adjectives (by decide), S1 fW_contraries (by decide), S1 fW_values (by decide), S1 fW_properties (by decide), S1 fW_valueTypes (by decide), S1 fW_propertyTypes (by decide)]
      exact this
    have sz : ρ fT_size 0 0 ≤ 5000 := by rw [A.1.2.2.1]; exact ET.2.1.1
    have hst' : υ fM_story 0 = ρ fT_bytes 0 := by rw [S2 _ (by decide), A.1.2.1]; exact hst
    obtain ⟨b, ρ1, υ1, s1, s2, s3, s4, s5, s6⟩ := item_J A hst' sz S3 ho io (t := t) (by omega) (d := d) (d' := d') hd hd'
    have runC : r_places_60 d ρ k o i = r_places_122 d ρ1 k o i b := by
      rw [e_r_places_60, S1 fR_described (by decide), ds1, if_pos h, ck_ok _ (by omega), S1 fR_describedValue (by decide), x2, S1 fR_describedWhich (by decide), x1, S1 fR_nameFrom (by decide), hnf]
      by_cases z : v i = -1
      · rw [if_pos z] at s1
        rw [if_pos z, ck_ok _ (by omega), ck_ok _ hk, s1]
        simp only [Option.bind_some]
      · rw [if_neg z] at s1
        rw [if_neg z, ck_ok _ (by omega), ck_ok _ (by omega), ck_ok _ hk, s1]
        simp only [Option.bind_some]
    have runM : m_doDescribed_133 d' υ k r o i = (if b = 0 then ga_ck r 2600 ((c_m_wrong d' υ1 5 (υ1 fM_runFrom 0 r)).bind fun q7 => m_doDescribed_176 d' q7.2 k r o i) else m_doDescribed_176 d' υ1 k r o i) := by
      rw [e_m_doDescribed_133, S2 fM_readCount (by decide), ds2, if_pos h, if_pos S4, ck_ok _ (by omega), S2 fM_readAdjective (by decide), x3, s2]
      simp only [Option.bind_some]
    rcases s6 with ⟨z, z1, z2⟩ | ⟨z, z1, z2, z3⟩
    · rw [z, e_r_places_122, if_neg (by decide), w32_ok (x := i + 1) (by omega)] at runC
      rw [z, if_neg (by decide), e_m_doDescribed_176, w32_ok (x := i + 1) (by omega)] at runM
      have PS1 : pcS σ τ0 ρ1 υ1 := ⟨fr_trans S1 (fr_sub s4 (by decide)), fr_trans S2 (fr_sub s5 (by decide)), by rw [z1 _ (by decide)]; exact S3, by rw [s5 _ (by decide)]; exact S4⟩
      have hob : ρ1 fW_objects = ρ fW_objects := z1 _ (by decide)
      rcases ih (by omega) (by omega) ρ1 υ1 z2 PS1 (by rw [hob]; exact ho) with ⟨ρ', υ', t1, t2, t3, t4, t5⟩ | ⟨ρ', υ', t1, t2, t3⟩
      · exact Or.inl ⟨ρ', υ', runC.trans t1, runM.trans t2, t3, fr_trans z1 t4, fr_trans s5 t5⟩
      · exact Or.inr ⟨ρ', υ', runC.trans t1, runM.trans t2, t3⟩
    · rw [z, e_r_places_122, if_pos rfl] at runC
      have rf : υ fM_runFrom 0 r = f + t := by rw [S2 _ (by decide)]; exact hrf
      rw [z, if_pos rfl, ck_ok _ hr, z1, rf] at runM
      obtain ⟨υ2, w1, w2, w3, w4⟩ := m_wrongA S4 (t := f + t) (why := 5) (by omega) (d := d') (by omega)
      rw [w1] at runM
      simp only [Option.bind_some] at runM
      rw [e_m_doDescribed_176, (m_stop (υ := υ2) (by rw [w3]; decide) k r o hk d').2.1] at runM
      refine Or.inr ⟨ρ1, υ2, runC, runM, ⟨z2, ?_, w3, ?_⟩, fr_trans S1 (fr_sub s4 (by decide)), fr_trans S2 (fr_sub w2 (by decide))⟩
      · rw [z3, A.1.1 fT_places (by decide)]
      · rw [w4, A.2.1 _ (by decide)]; exact (ET.2.2.1 t ht.1 (by omega)).2.2.2
/-- ahead of name k -/
def pcQ (σ τ τ0 : ga_S) (g : Int) (ρ υ : ga_S) (k : Int) : Prop := AW σ τ g ρ υ ∧ pcS σ τ0 ρ υ ∧ (∀ nm, fnd σ nm 0 ≠ -1 → (fnd ρ nm 0 ≠ -1 ∧ ∀ s, dN ρ nm s = dN σ nm s)) ∧ (∀ nm, fnd σ nm 0 = -1 → (∀ j, 0 ≤ j → j < k → nm ≠ nN σ j) → fnd ρ nm 0 = -1) ∧ ρ fW_objects 0 0 = σ fW_objects 0 0 + ((nwS σ (fun k => σ fR_nameFrom 0 k) (fun k => σ fR_nameTo 0 k) k).length : Int) ∧ (0 < k → dN ρ (nN σ 0) 2 = υ fM_described 0 0 ∧ 0 ≤ υ fM_described 0 0 ∧ υ fM_described 0 0 < ρ fW_objects 0 0 ∧ fnd ρ (nN σ 0) 0 ≠ -1)
theorem dN_fnd {ρ : ga_S} {nm : List Int} {s : Int} (h : dN ρ nm s ≠ -1) : fnd ρ nm 0 ≠ -1 := fun z => h (by unfold dN; rw [if_pos (Or.inl z)])
/-- the place, on both sides -/
def pcP (σ τ τ0 : ga_S) (f : Int) (N : Nat) : Prop := (σ fR_placeSort 0 0 = 0 ∧ τ0 fM_placeWay 0 0 = 0) ∨ ((1 ≤ σ fR_placeSort 0 0 ∧ σ fR_placeSort 0 0 ≤ 5) ∧ τ0 fM_placeWay 0 0 = σ fR_placeSort 0 0 ∧ ∃ pa pb, RU σ τ f N (τ0 fM_placeRun 0 0) pa pb ∧ σ fR_object0 0 0 = dN σ (nmT σ pa pb) 2 ∧ dN σ (nmT σ pa pb) 2 ≠ -1)
/-- described, on both sides, or not -/
def pcD (σ τ0 : ga_S) : Prop := (σ fR_isDescribed 0 0 = 0 ∧ τ0 fM_sort 0 0 = 13) ∨ (σ fR_isDescribed 0 0 ≠ 0 ∧ τ0 fM_sort 0 0 ≠ 13 ∧ (0 ≤ σ fR_describedKind 0 0 ∧ σ fR_describedKind 0 0 < σ fW_kinds 0 0) ∧ τ0 fM_readKind 0 0 = σ fR_describedKind 0 0 ∧ ∃ m w v c, dsR σ τ0 m w v c ∧ ∀ i, 0 ≤ i → i < m → itO σ (w i) (v i) (c i))
theorem pl_put {τ0 : ga_S} (E : E0 σ τ f N) {g : Int} (P : pcP σ τ τ0 f N) {ρ υ : ga_S} (A : AW σ τ g ρ υ) (S : pcS σ τ0 ρ υ) (hn : ∀ nm, fnd σ nm 0 ≠ -1 → (fnd ρ nm 0 ≠ -1 ∧ ∀ s, dN ρ nm s = dN σ nm s)) (hob : σ fW_objects 0 0 ≤ ρ fW_objects 0 0) {k r o t : Int} (ho : 0 ≤ o ∧ o < ρ fW_objects 0 0) (hk : 0 ≤ k ∧ k < 4999) (hr : 0 ≤ r ∧ r < 2600) (hnf : σ fR_nameFrom 0 k = t) (ht : 0 ≤ t ∧ t ≤ N) (hrf : τ0 fM_runFrom 0 r = f + t) {d d' : Nat} (hd : 4 ≤ d) (hd' : 5 ≤ d') : (∃ ρ' υ', r_places_137 d ρ k o = r_places_2 d ρ' (k + 1) ∧ m_doDescribed_182 d' υ k r o = m_doDescribed_2 d' υ' (k + 1) ∧ AW σ τ g ρ' υ' ∧ pcS σ τ0 ρ' υ' ∧ fr [fW_placed, fW_placeAt] ρ ρ' ∧ fr [fM_way, fM_there] υ υ') ∨ (∃ ρ' υ' why, r_places_137 d ρ k o = some (0, ρ') ∧ m_doDescribed_182 d' υ k r o = some (0, υ') ∧ (why = 5 ∨ why = 6) ∧ AF ρ' υ' why (σ fT_places 0 t) ∧ fr pcC σ ρ' ∧ fr pcM τ0 υ') := by
  have ET : ENV σ τ f N ∧ TOK σ τ f N := ⟨E.1, E.2.1⟩
  obtain ⟨S1, S2, S3, S4⟩ := S
  rcases P with ⟨p1, p2⟩ | ⟨p1, p2, pa, pb, p3, p4, p5⟩
  · refine Or.inl ⟨ρ, υ, ?_, ?_, A, ⟨S1, S2, S3, S4⟩, fr_refl _ _, fr_refl _ _⟩
    · rw [e_r_places_137, S1 fR_placeSort (by decide), if_pos p1, e_r_places_160, w32_ok (x := k + 1) (by omega)]
    · rw [e_m_doDescribed_182, S2 fM_placeWay (by decide), p2, if_neg (by decide), e_m_doDescribed_207, w32_ok (x := k + 1) (by omega)]
  · have rP := e0_dN E (nmT σ pa pb) 2
    have m2 : mxN σ 2 = σ fW_objects 0 0 := rfl
    have dn := (hn _ (dN_fnd p5)).2 2
    obtain ⟨b, ρ', υ', q1, q2, q3, q4, q5, q6⟩ := put_J ET A S3 S4 (o := o) (p := dN σ (nmT σ pa pb) 2) (s := σ fR_placeSort 0 0) (t := t) (pr := τ0 fM_placeRun 0 0) ho (by omega) p1 (by rw [S1 _ (by decide)]) (by rw [S1 _ (by decide)]; exact p4) (by rw [S2 _ (by decide)]; exact p2) (by rw [S2 _ (by decide)]) p3 dn ht (d := d) (d' := d') hd hd'
    have runC : r_places_137 d ρ k o = (if b = 0 then some (0, ρ') else r_places_160 d ρ' k) := by
      rw [e_r_places_137, S1 fR_placeSort (by decide), if_neg (by omega), ck_ok _ (by omega), S1 fR_nameFrom (by decide), hnf, q1]
      simp only [Option.bind_some]
    have runM : m_doDescribed_182 d' υ k r o = m_doDescribed_207 d' υ' k := by
      rw [e_m_doDescribed_182, S2 fM_placeWay (by decide), p2, if_pos (by omega), if_pos S4, ck_ok _ hr, S2 fM_runFrom (by decide), hrf, q2]
      simp only [Option.bind_some]
    rcases q6 with ⟨z, z1, z2, z3⟩ | ⟨z, why, z1, z2⟩
    · rw [z, if_neg (by decide), e_r_places_160, w32_ok (x := k + 1) (by omega)] at runC
      rw [e_m_doDescribed_207, w32_ok (x := k + 1) (by omega)] at runM
      exact Or.inl ⟨ρ', υ', runC, runM, z3, ⟨fr_trans S1 (fr_sub z1 (by decide)), fr_trans S2 (fr_sub z2 (by decide)), by rw [z1 _ (by decide)]; exact S3, by rw [z2 _ (by decide)]; exact S4⟩, z1, z2⟩
    · rw [z, if_pos rfl] at runC
      have hb : υ' fM_bestFault 0 0 ≠ 0 := by rw [z2.2.2.1]; omega
      rw [e_m_doDescribed_207, (m_stop hb k r o (by omega) d').2.2.2] at runM
      exact Or.inr ⟨ρ', υ', why, runC, runM, z1, z2, fr_trans S1 (fr_sub q4 (by decide)), fr_trans S2 (fr_sub q5 (by decide))⟩
/-- one name -/
theorem pc_step {τ0 : ga_S} (E : E0 σ τ f N) {g : Int} (P : pcP σ τ τ0 f N) (Dd : pcD σ τ0) (hst : τ0 fM_story 0 = σ fT_bytes 0) (hT : fr [fM_placeWay] τ τ0) (hl : τ fM_listFrom 0 0 = 0 ∧ τ fM_listSize 0 0 = σ fR_names 0 0) (hn : ∀ k, 0 ≤ k → k < σ fR_names 0 0 → RU σ τ f N k (σ fR_nameFrom 0 k) (σ fR_nameTo 0 k) ∧ σ fR_nameFrom 0 k < σ fR_nameTo 0 k) (hobs : obAll σ) {k : Int} (hk : 0 ≤ k ∧ k < σ fR_names 0 0) (hk5 : k < 2500) {ρ υ : ga_S} (H : pcQ σ τ τ0 g ρ υ k) {d d' : Nat} (hd : 6 ≤ d) (hd' : 5 ≤ d') : (∃ ρ' υ', r_places_2 d ρ k = r_places_2 d ρ' (k + 1) ∧ m_doDescribed_2 d' υ k = m_doDescribed_2 d' υ' (k + 1) ∧ pcQ σ τ τ0 g ρ' υ' (k + 1)) ∨ (∃ ρ' υ' why, r_places_2 d ρ k = some (0, ρ') ∧ m_doDescribed_2 d' υ k = some (0, υ') ∧ (why = 5 ∨ why = 6) ∧ AF ρ' υ' why (σ fT_places 0 (σ fR_nameFrom 0 k)) ∧ fr pcC σ ρ' ∧ fr pcM τ0 υ') := by
  have ET : ENV σ τ f N ∧ TOK σ τ f N := ⟨E.1, E.2.1⟩
  obtain ⟨H1, H2, H3, H4, H5, H6⟩ := H
  have H2' := H2
  obtain ⟨S1, S2, S3, S4⟩ := H2'
  obtain ⟨RN, lt⟩ := hn k hk.1 hk.2
  have t0 := frB_t RN.2.2.2
  have hN5 := E.1.2.2.1
  have fN := E.1.2.1
  have f0 := E.1.1
  obtain ⟨nm, en⟩ : ∃ x, x = nmT σ (σ fR_nameFrom 0 k) (σ fR_nameTo 0 k) := ⟨_, rfl⟩
  have ob := hobs k hk.1 hk.2
  have Wk5 := E.2.2.2.1.2.1
  -- the object
  have h : dN ρ nm 2 ≠ -1 ∨ (fnd ρ nm 0 = -1 ∧ σ fR_nameTo 0 k - σ fR_nameFrom 0 k ≤ 3 ∧ ρ fW_objects 0 0 < 24) := by
    rcases ob with z | ⟨z1, z2, z3⟩
    · have z' : dN σ nm 2 ≠ -1 := by rw [en]; exact z
      exact Or.inl (by rw [(H3 nm (dN_fnd z')).2 2]; exact z')
    · have b := nB_1 z2
      have l := wsT_len (σ := σ) RN.2.2.2.2.1
      refine Or.inr ⟨H4 nm (by rw [en]; exact z1) (fun j j0 j1 y => ?_), ?_, by rw [H5]; exact z3⟩
      · have e := nm_ne E.2.1 RN.2.2.2 (hn j j0 (by omega)).1.2.2.2 (by rw [← en]; exact y)
        refine b.2.2 ?_
        unfold nwS
        refine List.mem_filter.mpr ⟨List.mem_map.mpr ⟨j, (rg_mem 0).mpr ⟨j0, j1⟩, e.symm⟩, ?_⟩
        exact decide_eq_true z1
      · have b1 : (wsT σ 0 (σ fR_nameFrom 0 k) (σ fR_nameTo 0 k)).length ≤ 3 := b.1
        omega
  obtain ⟨kd, ekd⟩ : ∃ x, x = (if σ fR_isDescribed 0 0 = 0 then 0 else σ fR_describedKind 0 0) := ⟨_, rfl⟩
  have kdr : 0 ≤ kd ∧ kd < σ fW_kinds 0 0 := by
    rcases Dd with z | z
    · rw [if_pos z.1] at ekd; omega
    · rw [if_neg z.1] at ekd; omega
  obtain ⟨o, ρ1, υ1, j1, j2, j3, j4, j5, j6, j7, j8, j9, j10, j11, j12⟩ := obj_J ET H1 (r := k) (kd := kd) (k := k) RN lt (by rw [S1 fW_kinds (by decide)]; exact kdr) (by rw [← en]; exact h) (by omega) (by rw [S1 _ (by decide)]) (by rw [S1 _ (by decide)]) (d := d) (d' := d') hd hd'
  rw [← en] at j6 j8 j10
  have PS1 : pcS σ τ0 ρ1 υ1 := ⟨fr_trans S1 (fr_sub j3 (by decide)), fr_trans S2 (fr_sub j4 (by decide)), by rw [j3 _ (by decide)]; exact S3, by rw [j4 _ (by decide)]; exact S4⟩
  have obl : ρ fW_objects 0 0 ≤ ρ1 fW_objects 0 0 := by
    rw [j8]
    by_cases c : dN ρ nm 2 = -1
    · rw [if_pos c]; omega
    · rw [if_neg c]; omega
  have obl0 : σ fW_objects 0 0 ≤ ρ fW_objects 0 0 := by rw [H5]; omega
  have hls : υ fM_listSize 0 0 = σ fR_names 0 0 := by rw [S2 _ (by decide), hT _ (by decide)]; exact hl.2
  have hlf : υ fM_listFrom 0 0 = 0 := by rw [S2 _ (by decide), hT _ (by decide)]; exact hl.1
  have hrf : τ0 fM_runFrom 0 k = f + σ fR_nameFrom 0 k := by rw [hT _ (by decide)]; exact RN.2.1
  -- the first steps
  have runC : r_places_2 d ρ k = (if σ fR_isDescribed 0 0 = 0 then r_places_137 d ρ1 k o else ga_ck k 5000 ((c_r_ofKind d ρ1 o (σ fR_describedKind 0 0) (σ fR_nameFrom 0 k)).bind fun q3 => if q3.1 = 0 then some (0, q3.2) else r_places_60 d q3.2 k o 0)) := by
    have r27 : r_places_27 d ρ k kd k = (if σ fR_isDescribed 0 0 = 0 then r_places_137 d ρ1 k o else ga_ck k 5000 ((c_r_ofKind d ρ1 o (σ fR_describedKind 0 0) (σ fR_nameFrom 0 k)).bind fun q3 => if q3.1 = 0 then some (0, q3.2) else r_places_60 d q3.2 k o 0)) := by
      rw [e_r_places_27, j1]
      simp only [Option.bind_some]
      rw [PS1.1 fR_isDescribed (by decide), PS1.1 fR_describedKind (by decide), PS1.1 fR_nameFrom (by decide)]
    rw [e_r_places_2, S1 fR_names (by decide), if_pos hk.2, S1 fR_isDescribed (by decide), S1 fR_describedKind (by decide)]
    by_cases c : σ fR_isDescribed 0 0 = 0
    · rw [if_pos c] at ekd
      rw [ekd] at r27
      rw [if_pos c]
      exact r27
    · rw [if_neg c] at ekd
      rw [ekd] at r27
      rw [if_neg c]
      exact r27
  obtain ⟨s, es⟩ : ∃ x, x = (if k = 0 then o else υ1 fM_described 0 0) := ⟨_, rfl⟩
  have runM : m_doDescribed_2 d' υ k = m_doDescribed_60 d' υ1 k k o s := by
    have r43 : m_doDescribed_43 d' υ k k kd k = m_doDescribed_60 d' υ1 k k o s := by
      rw [e_m_doDescribed_43, j2]
      simp only [Option.bind_some]
      by_cases c : k = 0
      · rw [if_pos c] at es; rw [if_pos c, es]
      · rw [if_neg c] at es; rw [if_neg c, es]
    rw [e_m_doDescribed_2, hls, if_pos hk.2, if_pos S4, hlf, show (0 : Int) + k = k by omega, w32_ok (x := k) (by omega), S2 fM_sort (by decide), S2 fM_readKind (by decide)]
    rcases Dd with z | z
    · rw [if_pos z.1] at ekd
      rw [if_pos z.2, ← ekd]; exact r43
    · rw [if_neg z.1] at ekd
      rw [if_neg z.2.1, z.2.2.2.1, ← ekd]; exact r43
  -- what is kept, once the name is done
  have keep : ∀ ρ' υ', AW σ τ g ρ' υ' → pcS σ τ0 ρ' υ' → (∀ F, F ∈ dicL → ρ' F = ρ1 F) → ρ' fW_objects = ρ1 fW_objects → υ' fM_described 0 0 = s → pcQ σ τ τ0 g ρ' υ' (k + 1) := by
    intro ρ' υ' a1 a2 a3 a4 a5
    have dic := dic_c a3
    refine ⟨a1, a2, fun nm' z => ?_, fun nm' z1 z2 => ?_, ?_, fun _ => ?_⟩
    · have w := H3 nm' z
      have w2 := j9 nm' w.1
      rw [dic.1, dic.2.1]
      exact ⟨w2.1, fun s' => by rw [w2.2 s', w.2 s']⟩
    · rw [dic.1]
      exact j10 nm' (by rw [en]; exact z2 k hk.1 (by omega)) (H4 nm' z1 (fun j j0 j1 => z2 j j0 (by omega)))
    · rw [a4, j8, H5, nwS_s _ _ hk.1]
      have e2 : (dN ρ nm 2 = -1) ↔ fnd σ (nmT σ (σ fR_nameFrom 0 k) (σ fR_nameTo 0 k)) 0 = -1 := by
        rw [← en]
        constructor
        · intro z
          refine Classical.byContradiction fun y => ?_
          have w := (H3 nm y).2 2
          rcases ob with q | q
          · rw [← en] at q; exact q (by rw [← w]; exact z)
          · rw [← en] at q; exact y q.1
        · intro z
          rcases ob with q | q
          · rw [← en] at q; exact absurd z (dN_fnd q)
          · rcases h with y | y
            · exfalso
              have b := nB_1 q.2.1
              have fr0 : fnd ρ nm 0 = -1 := H4 nm z (fun j j0 j1 y2 => by
                have e := nm_ne E.2.1 RN.2.2.2 (hn j j0 (by omega)).1.2.2.2 (by rw [← en]; exact y2)
                refine b.2.2 ?_
                unfold nwS
                refine List.mem_filter.mpr ⟨List.mem_map.mpr ⟨j, (rg_mem 0).mpr ⟨j0, j1⟩, e.symm⟩, ?_⟩
                exact decide_eq_true q.1)
              exact dN_fnd y fr0
            · unfold dN; rw [if_pos (Or.inl y.1)]
      by_cases c : dN ρ nm 2 = -1
      · rw [if_pos c, if_pos (e2.mp c), List.length_append]
        simp
        omega
      · rw [if_neg c, if_neg (fun z => c (e2.mpr z))]; omega
    · rw [dic.1, dic.2.1, a4, a5]
      by_cases c : k = 0
      · have e0 : nN σ 0 = nm := by rw [en, c]; rfl
        rw [if_pos c] at es
        rw [e0, j6, es]
        exact ⟨rfl, j7.1, j7.2, dN_fnd (s := 2) (by rw [j6]; omega)⟩
      · rw [if_neg c] at es
        have w := H6 (by omega)
        have w2 := j9 _ w.2.2.2
        rw [es, j4 fM_described (by decide)]
        exact ⟨by rw [w2.2 2]; exact w.1, w.2.1, by omega, w2.1⟩
  have names' : ∀ ρ', (∀ F, F ∈ dicL → ρ' F = ρ1 F) → ∀ nm, fnd σ nm 0 ≠ -1 → (fnd ρ' nm 0 ≠ -1 ∧ ∀ s, dN ρ' nm s = dN σ nm s) := by
    intro ρ' a3 nm' z
    have dic := dic_c a3
    have w := H3 nm' z
    have w2 := j9 nm' w.1
    rw [dic.1, dic.2.1]
    exact ⟨w2.1, fun s' => by rw [w2.2 s', w.2 s']⟩
  -- the end of it: the place
  have put : ∀ ρ2 υ2, AW σ τ g ρ2 υ2 → pcS σ τ0 ρ2 υ2 → (∀ F, F ∈ dicL → ρ2 F = ρ1 F) → ρ2 fW_objects = ρ1 fW_objects → υ2 fM_described 0 0 = s → r_places_2 d ρ k = r_places_137 d ρ2 k o → m_doDescribed_2 d' υ k = m_doDescribed_182 d' υ2 k k o → ((∃ ρ' υ', r_places_2 d ρ k = r_places_2 d ρ' (k + 1) ∧ m_doDescribed_2 d' υ k = m_doDescribed_2 d' υ' (k + 1) ∧ pcQ σ τ τ0 g ρ' υ' (k + 1)) ∨ (∃ ρ' υ' why, r_places_2 d ρ k = some (0, ρ') ∧ m_doDescribed_2 d' υ k = some (0, υ') ∧ (why = 5 ∨ why = 6) ∧ AF ρ' υ' why (σ fT_places 0 (σ fR_nameFrom 0 k)) ∧ fr pcC σ ρ' ∧ fr pcM τ0 υ')) := by
    intro ρ2 υ2 a1 a2 a3 a4 a5 c1 c2
    rcases pl_put E P a1 a2 (names' ρ2 a3) (by rw [a4]; omega) (k := k) (r := k) (o := o) (t := σ fR_nameFrom 0 k) (by rw [a4]; exact j7) (by omega) (by omega) rfl (by omega) hrf (d := d) (d' := d') (by omega) hd' with ⟨ρ', υ', p1, p2, p3, p4, p5, p6⟩ | ⟨ρ', υ', why, p1, p2, p3, p4⟩
    · exact Or.inl ⟨ρ', υ', c1.trans p1, c2.trans p2, keep ρ' υ' p3 p4 (fun F hF => by rw [fr_mem p5 (M := dicL) (by decide) F hF]; exact a3 F hF) (by rw [p5 _ (by decide)]; exact a4) (by rw [p6 _ (by decide)]; exact a5)⟩
    · exact Or.inr ⟨ρ', υ', why, c1.trans p1, c2.trans p2, p3, p4⟩
  rcases Dd with ⟨z1, z2⟩ | ⟨z1, z2, z3, z4, m, w, v, c, z5, z6⟩
  · rw [if_pos z1] at runC
    obtain ⟨υ2, e2⟩ : ∃ x, x = ga_up υ1 fM_described 0 0 s := ⟨_, rfl⟩
    have f2 : fr [fM_described] υ1 υ2 := by rw [e2]; exact fr_u (by decide)
    rw [e_m_doDescribed_60, PS1.2.1 fM_sort (by decide), if_pos z2, ← e2] at runM
    exact put ρ1 υ2 (AW_f j5 (fr_refl [] ρ1) (by decide) f2 (by decide)) ⟨PS1.1, fr_trans PS1.2.1 (fr_sub f2 (by decide)), PS1.2.2.1, by rw [f2 _ (by decide)]; exact PS1.2.2.2⟩ (fun _ _ => rfl) rfl (by rw [e2, up_eq]) runC runM
  · rw [if_neg z1, ck_ok _ (by omega)] at runC
    obtain ⟨b, ρ2, k1, k2, k3, k4⟩ := ofk_J j5 PS1.2.2.1 (o := o) (K := σ fR_describedKind 0 0) (t := σ fR_nameFrom 0 k) j7 (by rw [PS1.1 fW_kinds (by decide)]; exact z3) (by rw [PS1.2.1 _ (by decide)]; exact z4) (by omega) (by rw [PS1.2.1 _ (by decide)]; exact z2) k k s (by omega) (d := d) (d' := d') (by omega) (by omega)
    rw [k1] at runC
    simp only [Option.bind_some] at runC
    rcases k4 with ⟨y, y1, υ2, y2, y3, y4, y5⟩ | ⟨y, y1, y2, y3⟩
    · rw [y, if_neg (by decide)] at runC
      rw [y2, e_m_doDescribed_130] at runM
      have PS2 : pcS σ τ0 ρ2 υ2 := ⟨fr_trans PS1.1 (fr_sub y1 (by decide)), fr_trans PS1.2.1 (fr_sub y3 (by decide)), by rw [y1 _ (by decide)]; exact PS1.2.2.1, by rw [y3 _ (by decide)]; exact PS1.2.2.2⟩
      rcases it_loop (τ := τ) ET (g := g) (o := o) (k := k) (r := k) (t := σ fR_nameFrom 0 k) z5 z6 (by omega) (by omega) hst rfl (by omega) hrf (d := d) (d' := d') (by omega) (by omega) 0 (Int.le_refl _) z5.1 ρ2 υ2 y5 PS2 (by rw [y1 _ (by decide)]; exact j7) with ⟨ρ3, υ3, q1, q2, q3, q4, q5⟩ | ⟨ρ3, υ3, q1, q2, q3⟩
      · refine put ρ3 υ3 q3 ⟨fr_trans PS2.1 (fr_sub q4 (by decide)), fr_trans PS2.2.1 (fr_sub q5 (by decide)), by rw [q4 _ (by decide)]; exact PS2.2.2.1, by rw [q5 _ (by decide)]; exact PS2.2.2.2⟩ (fun F hF => ?_) ?_ ?_ (runC.trans q1) (runM.trans q2)
        · rw [fr_mem q4 (M := dicL) (by decide) F hF, fr_mem y1 (M := dicL) (by decide) F hF]
        · rw [q4 _ (by decide), y1 _ (by decide)]
        · rw [q5 _ (by decide)]; exact y4
      · exact Or.inr ⟨ρ3, υ3, 5, runC.trans q1, runM.trans q2, Or.inl rfl, q3⟩
    · rw [y, if_pos rfl] at runC
      obtain ⟨υ2, e2⟩ : ∃ x, x = ga_up υ1 fM_described 0 0 s := ⟨_, rfl⟩
      have f2 : fr [fM_described] υ1 υ2 := by rw [e2]; exact fr_u (by decide)
      have rf : υ1 fM_runFrom 0 k = f + σ fR_nameFrom 0 k := by rw [PS1.2.1 _ (by decide)]; exact hrf
      obtain ⟨υ3, w1, w2, w3, w4⟩ := m_wrongA (τ := υ2) (by rw [f2 _ (by decide)]; exact PS1.2.2.2) (t := f + σ fR_nameFrom 0 k) (why := 5) (by omega) (d := d') (by omega)
      rw [y3, ← e2, rf, w1] at runM
      simp only [Option.bind_some] at runM
      rw [(m_stop (υ := υ3) (by rw [w3]; decide) k k o (by omega) d').2.2.1] at runM
      refine Or.inr ⟨ρ2, υ3, 5, runC, runM, Or.inl rfl, ⟨y1, ?_, w3, ?_⟩, fr_trans PS1.1 (fr_sub k3 (by decide)), fr_trans PS1.2.1 (fr_trans (fr_sub f2 (by decide)) (fr_sub w2 (by decide)))⟩
      · rw [y2, j5.1.1 fT_places (by decide)]
      · rw [w4, f2 _ (by decide), j5.2.1 _ (by decide)]; exact (E.2.1.2.1 _ t0.1 (by omega)).2.2.2
end

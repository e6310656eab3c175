/-! new kinds and types: the plurals -/
section
variable {σ τ : ga_S} {f : Int} {N : Nat}
/-- ahead of plural k -/
def PU (σ τ : ga_S) (g K T n v3 : Int) (ρ0 υ0 ρ υ : ga_S) (k : Int) : Prop := tkS σ ρ ∧ tkT τ υ ∧ DW ρ υ g ∧ fr (dicL ++ spL) ρ0 ρ ∧ fr lexL υ0 υ ∧ (∀ j, 0 ≤ j → j < n → fnd ρ (nN σ j) 0 ≠ -1 ∧ ρ fD_sorts 0 (fnd ρ (nN σ j) 0) ≠ 11) ∧ (∀ q, live ρ q → ρ fD_sorts 0 q = 11 → ρ fD_numbers 0 q < K + (if v3 = 0 then k else 0) ∨ (100 ≤ ρ fD_numbers 0 q ∧ ρ fD_numbers 0 q < 100 + T + (if v3 = 0 then 0 else k))) ∧ (∀ j, k ≤ j → j < n → lastL (wN σ j) = 12 → fnd ρ (nN σ j ++ [115]) 0 = -1)
theorem pu_step (ET : ENV σ τ f N ∧ TOK σ τ f N) {g K T n v3 k : Int} {ρ0 υ0 ρ υ : ga_S} (H : PU σ τ g K T n v3 ρ0 υ0 ρ υ k) (hk : 0 ≤ k ∧ k < n) (hn : n ≤ 16) (hK : 0 ≤ K ∧ K ≤ 16) (hT : 0 ≤ T ∧ T ≤ 8) (hv : (v3 = 0 ∧ ρ0 fW_kinds 0 0 = K + n ∧ K + n ≤ 16) ∨ (v3 ≠ 0 ∧ ρ0 fW_types 0 0 = T + n ∧ T + n ≤ 8)) (hl : τ fM_listFrom 0 0 = 0 ∧ τ fM_listSize 0 0 = n) (hl0 : υ0 fM_listFrom = τ fM_listFrom ∧ υ0 fM_listSize = τ fM_listSize) (R : RU σ τ f N k (σ fR_nameFrom 0 k) (σ fR_nameTo 0 k)) (lt : σ fR_nameFrom 0 k < σ fR_nameTo 0 k) (w : (wN σ k).length ≤ 3) (wd : ∀ j, 0 ≤ j → j < n → j ≠ k → nN σ j ≠ nN σ k) {d d' : Nat} (hd : 3 ≤ d) (hd' : 1 ≤ d') : ∃ ρ' υ', c_r_pluralWithS d ρ (σ fR_nameFrom 0 k) (σ fR_nameTo 0 k) (if v3 = 0 then K + k else 100 + (T + k)) = some (0, ρ') ∧ m_doKinds_124 d' υ K T v3 k = m_doKinds_124 d' υ' K T v3 (k + 1) ∧ PU σ τ g K T n v3 ρ0 υ0 ρ' υ' (k + 1) := by
  obtain ⟨H1, H2, H3, H4, H5, H6, H7, H8⟩ := H
  have len0 : σ fR_nameTo 0 k - σ fR_nameFrom 0 k ≤ 3 := by have := wsT_len (σ := σ) R.2.2.2.2.1; unfold wN at w; omega
  obtain ⟨nr, er⟩ : ∃ x, x = (if v3 = 0 then K + k else 100 + (T + k)) := ⟨_, rfl⟩
  have hvv : (v3 = 0 ∧ nr = K + k ∧ nr = nr ∧ (1 : Int) = 1 ∧ nr < 16 ∧ nr < ρ fW_kinds 0 0) ∨ (v3 ≠ 0 ∧ nr = 100 + (T + k) ∧ T + k = T + k ∧ (3 : Int) = 3 ∧ nr < 108 ∧ nr < 100 + ρ fW_types 0 0 ∧ 100 ≤ nr) := by
    rcases hv with z | z
    · rw [if_pos z.1] at er
      have := H4 fW_kinds (by decide)
      exact Or.inl ⟨z.1, er, rfl, rfl, by omega, by rw [this]; omega⟩
    · rw [if_neg z.1] at er
      have := H4 fW_types (by decide)
      exact Or.inr ⟨z.1, er, rfl, rfl, by omega, by rw [this]; omega, by omega⟩
  have nn : ∀ j, live ρ j → ρ fD_sorts 0 j = 11 → ρ fD_numbers 0 j ≠ nr := by
    intro j l e
    have x := H7 j l e
    rcases hvv with z | z
    · rw [if_pos z.1, if_pos z.1] at x; omega
    · rw [if_neg z.1, if_neg z.1] at x; omega
  have hli : w32 (υ fM_listFrom 0 0 + k) = k := by
    rw [H5 fM_listFrom (by decide), hl0.1, hl.1, w32_ok (by omega)]; omega
  have hls : υ fM_listSize 0 0 = n := by rw [H5 fM_listSize (by decide), hl0.2]; exact hl.2
  have mk : ∃ mi ms : Int, (v3 = 0 ∧ nr = K + k ∧ mi = nr ∧ ms = 1 ∧ nr < 16 ∧ nr < ρ fW_kinds 0 0) ∨ (v3 ≠ 0 ∧ nr = 100 + (T + k) ∧ mi = T + k ∧ ms = 3 ∧ nr < 108 ∧ nr < 100 + ρ fW_types 0 0 ∧ 100 ≤ nr) := by
    rcases hvv with z | z
    · exact ⟨nr, 1, Or.inl z⟩
    · exact ⟨T + k, 3, Or.inr z⟩
  obtain ⟨mi, ms, hm⟩ := mk
  obtain ⟨ρ', υ', p1, p2, p3, p4, p5, p6⟩ := pl_step ET H1 H2 H3 (r := k) (k := k) (n := nr) (mi := mi) (ms := ms) (v1 := K) (v2 := T) (v3 := v3) R lt len0 hli (by omega) (by omega) hm (by omega) nn (H6 k hk.1 hk.2) (H8 k (Int.le_refl _) hk.2) (d := d) (d' := d') hd hd'
  rw [← er]
  have S' : tkS σ ρ' := by
    rcases p6 with ⟨_, q2⟩ | ⟨_, q2⟩
    · exact tkS_f H1 (L := spL) (fun F hF => by
        by_cases z : F ∈ dicL
        · exact q2 F z
        · exact p3 F (fun m => (List.mem_append.mp m).elim z hF)) (by decide)
    · exact tkS_d H1 q2
  refine ⟨ρ', υ', p1, p2, S', tkT_f H2 p4 (by decide), p5, fr_trans H4 p3, fr_trans H5 p4, ?_⟩
  rcases p6 with ⟨q1, q2⟩ | ⟨q1, q2⟩
  · have D := dic_c q2
    refine ⟨fun j j0 j1 => ?_, fun q l e => ?_, fun j j0 j1 z => ?_⟩
    · rw [D.1, q2 fD_sorts (by decide)]; exact H6 j j0 j1
    · have l' : live ρ q := by unfold live at l ⊢; rw [q2 fD_count (by decide), q2 fD_sorts (by decide)] at l; exact l
      rw [q2 fD_sorts (by decide)] at e
      rw [q2 fD_numbers (by decide)]
      have x := H7 q l' e
      by_cases c : v3 = 0
      · rw [if_pos c, if_pos c] at x; rw [if_pos c, if_pos c]; omega
      · rw [if_neg c, if_neg c] at x; rw [if_neg c, if_neg c]; omega
    · rw [D.1]; exact H8 j (by omega) j1 z
  · have F := fnd_tell H3.1 q2 (by decide) q1
    refine ⟨fun j j0 j1 => ?_, fun q l e => ?_, fun j j0 j1 z => ?_⟩
    · have o := H6 j j0 j1
      have ro := (fnd_r (σ := ρ) (nm := nN σ j) (Int.le_refl 0)).resolve_left o.1
      rw [F, if_neg o.1, (q2.2.2.2.2.1 _ ro.1 ro.2.1).2.1]
      exact o
    · rcases (DT_live H3.1.1 q2 (by decide) q).mp l with l' | l'
      · have x := q2.2.2.2.2.1 q l'.1 l'.2.1
        rw [x.2.1] at e
        rw [x.2.2.1]
        have y := H7 q l' e
        by_cases c : v3 = 0
        · rw [if_pos c, if_pos c] at y; rw [if_pos c, if_pos c]; omega
        · rw [if_neg c, if_neg c] at y; rw [if_neg c, if_neg c]; omega
      · rw [l', q2.2.2.2.2.2.2.2.1]
        by_cases c : v3 = 0
        · rw [if_pos c] at er; rw [if_pos c, if_pos c]; omega
        · rw [if_neg c] at er; rw [if_neg c, if_neg c]; omega
    · rw [F, if_pos (H8 j (by omega) j1 z), if_neg]
      intro y
      exact wd j (by omega) j1 (by omega) (List.append_cancel_right y)
theorem pu_loop (ET : ENV σ τ f N ∧ TOK σ τ f N) {g K T n v3 : Int} {ρ0 υ0 : ga_S} (hn : n ≤ 16) (hK : 0 ≤ K ∧ K ≤ 16) (hT : 0 ≤ T ∧ T ≤ 8) (hv : (v3 = 0 ∧ ρ0 fR_isValue 0 0 = 0 ∧ ρ0 fW_kinds 0 0 = K + n ∧ K + n ≤ 16) ∨ (v3 ≠ 0 ∧ ρ0 fR_isValue 0 0 ≠ 0 ∧ ρ0 fW_types 0 0 = T + n ∧ T + n ≤ 8)) (hl : τ fM_listFrom 0 0 = 0 ∧ τ fM_listSize 0 0 = n) (hl0 : υ0 fM_listFrom = τ fM_listFrom ∧ υ0 fM_listSize = τ fM_listSize) (hρ : ρ0 fR_names 0 0 = n ∧ ρ0 fR_nameFrom = σ fR_nameFrom ∧ ρ0 fR_nameTo = σ fR_nameTo) (hr : ∀ k, 0 ≤ k → k < n → RU σ τ f N k (σ fR_nameFrom 0 k) (σ fR_nameTo 0 k) ∧ σ fR_nameFrom 0 k < σ fR_nameTo 0 k) (w : ∀ k, 0 ≤ k → k < n → (wN σ k).length ≤ 3) (wd : ∀ i j, 0 ≤ i → i < n → 0 ≤ j → j < n → j ≠ i → nN σ j ≠ nN σ i) {d d' : Nat} (hd : 3 ≤ d) (hd' : 1 ≤ d') : ∀ k, 0 ≤ k → k ≤ n → ∀ ρ υ, PU σ τ g K T n v3 ρ0 υ0 ρ υ k → ∃ ρ' υ', r_act_493 d ρ k = some (1, ρ') ∧ m_doKinds_124 d' υ K T v3 k = some (0, υ') ∧ PU σ τ g K T n v3 ρ0 υ0 ρ' υ' n := by
  refine rg_ind (n := n) ?_ ?_
  · intro k h h0 h1 ρ υ H
    have e : k = n := by omega
    subst e
    have H' := H
    obtain ⟨H1, H2, H3, H4, H5, H6, H7, H8⟩ := H'
    refine ⟨ρ, υ, ?_, ?_, H⟩
    · rw [e_r_act_493, H4 fR_names (by decide), hρ.1, if_neg (by omega)]
    · rw [e_m_doKinds_124, H5 fM_listSize (by decide), hl0.2, hl.2, if_neg (by omega)]
  · intro k h ih h0 h1 ρ υ H
    have hv' : (v3 = 0 ∧ ρ0 fW_kinds 0 0 = K + n ∧ K + n ≤ 16) ∨ (v3 ≠ 0 ∧ ρ0 fW_types 0 0 = T + n ∧ T + n ≤ 8) := by
      rcases hv with z | z
      · exact Or.inl ⟨z.1, z.2.2⟩
      · exact Or.inr ⟨z.1, z.2.2⟩
    obtain ⟨ρ1, υ1, s1, s2, s3⟩ := pu_step ET H ⟨h0, h⟩ hn hK hT hv' hl hl0 (hr k h0 h).1 (hr k h0 h).2 (w k h0 h) (fun j j0 j1 j2 => wd k j h0 h j0 j1 j2) (d := d) (d' := d') hd hd'
    obtain ⟨ρ', υ', t1, t2, t3⟩ := ih (by omega) (by omega) ρ1 υ1 s3
    obtain ⟨H1, H2, H3, H4, H5, H6, H7, H8⟩ := H
    refine ⟨ρ', υ', ?_, s2.trans t2, t3⟩
    rw [e_r_act_493, H4 fR_names (by decide), H4 fR_isValue (by decide), H4 fW_kinds (by decide), H4 fW_types (by decide), H4 fR_nameTo (by decide), H4 fR_nameFrom (by decide), hρ.1, hρ.2.1, hρ.2.2, if_pos h, ck_ok _ (by omega), ck_ok _ (by omega)]
    have fin : ∀ x, x = (if v3 = 0 then K + k else 100 + (T + k)) → r_act_555 d ρ k x (σ fR_nameTo 0 k) (σ fR_nameFrom 0 k) = some (1, ρ') := by
      intro x hx
      rw [e_r_act_555, hx, s1]
      simp only [Option.bind_some]
      rw [w32_ok (x := k + 1) (by omega), t1]
    rcases hv with z | z
    · rw [if_pos z.2.1, z.2.2.1, w32_ok (x := K + n - n) (by omega), w32_ok (x := K + n - n + k) (by omega)]
      exact fin _ (by rw [if_pos z.1]; omega)
    · rw [if_neg z.2.1, z.2.2.1, w32_ok (x := 100 + (T + n)) (by omega), w32_ok (x := 100 + (T + n) - n) (by omega), w32_ok (x := 100 + (T + n) - n + k) (by omega)]
      exact fin _ (by rw [if_neg z.1]; omega)
/-- the plurals' start -/
theorem pu_0 (T0 : TOK σ τ f N) (Wl : WKl σ) {g K T n v3 : Int} {ρ υ : ga_S} (H : NC σ τ g K T ρ υ n) (hb : ∀ k, 0 ≤ k → k < n → frB σ N (σ fR_nameFrom 0 k) (σ fR_nameTo 0 k)) (wnew : ∀ k, 0 ≤ k → k < n → fnd σ (nN σ k) 0 = -1) : PU σ τ g K T n v3 ρ υ ρ υ 0 := by
  obtain ⟨H1, H2, H3, H4, H5, H6⟩ := H
  refine ⟨H1, H2, H3, fr_refl _ _, fr_refl _ _, H5, fun q l e => ?_, fun j j0 j1 z => ?_⟩
  · have x := H6 q l e
    by_cases c : v3 = 0
    · rw [if_pos c]; omega
    · rw [if_neg c]; omega
  · have wj := wsT_W T0 (hb j j0 j1)
    refine H4 _ ?_ ?_
    · refine Classical.byContradiction fun y => ?_
      exact (Wl (wN σ j) wj z y).1 (wnew j j0 j1)
    · intro i i0 i1 y
      exact jn_no13 (wsT_W T0 (hb i i0 i1)) (wN σ j) wj z y
theorem rowT_e {σ τ σ' τ' : ga_S} {F : Nat} {base r : Int} (h : rowT σ τ F base r) (h1 : σ' fW_told = σ fW_told) (h2 : σ' fW_adjectives = σ fW_adjectives) (h3 : σ' fW_contraries = σ fW_contraries) (h4 : ∀ a, 0 ≤ a → a < 24 → τ' F 0 (base + a) = τ F 0 (base + a)) : rowT σ' τ' F base r := by
  intro a a0 a1
  have := h a a0 a1
  unfold tv at this ⊢
  rw [h1, h2, h3, h4 a a0 a1]
  exact this
theorem rowH_e {σ τ σ' τ' : ga_S} {Ft Fs Fl : Nat} {base r : Int} (h : rowH σ τ Ft Fs Fl base r) (h1 : ∀ G, G ∈ [fW_has, fW_numbers, fW_lengths, fW_properties, fW_propertyTypes, fW_values, fW_valueTypes] → σ' G = σ G) (h0 : σ' fT_size 0 = σ fT_size 0 ∧ σ' fT_bytes 0 = σ fT_bytes 0) (h4 : ∀ a, 0 ≤ a → a < 12 → τ' Ft 0 (base + a) = τ Ft 0 (base + a) ∧ τ' Fs 0 (base + a) = τ Fs 0 (base + a) ∧ τ' Fl 0 (base + a) = τ Fl 0 (base + a)) : rowH σ' τ' Ft Fs Fl base r := by
  intro a a0 a1
  have := h a a0 a1
  unfold vlO sTx at this ⊢
  have e := h4 a a0 a1
  rw [h1 fW_has (by decide), h1 fW_numbers (by decide), h1 fW_lengths (by decide), h1 fW_properties (by decide), h1 fW_propertyTypes (by decide), h1 fW_values (by decide), h1 fW_valueTypes (by decide), h0.1, h0.2, e.1, e.2.1, e.2.2]
  exact this
end

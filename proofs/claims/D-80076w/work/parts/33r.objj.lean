/-! an object that is named, or a new one: on both sides -/
section
variable {σ τ : ga_S} {f : Int} {N : Nat}
/-- the world while a sentence acts -/
def AW (σ τ : ga_S) (g : Int) (ρ υ : ga_S) : Prop := tkS σ ρ ∧ tkT τ υ ∧ WK ρ υ ∧ RW5 ρ υ ∧ DW ρ υ g ∧ kb0 ρ υ ∧ NW σ ρ
theorem DW_sp {ρ υ ρ' : ga_S} {g : Int} (D : DW ρ υ g) {L : List Nat} (h : fr L ρ ρ') (hL : (dicL ++ cntL).all (fun F => !(L.contains F)) = true) : DW ρ' υ g := by
  have hd : ∀ F, F ∈ dicL → ρ' F = ρ F := fun F hF => fr_no h hL (List.mem_append_left _ hF)
  have hc : ∀ F, F ∈ cntL → ρ' F = ρ F := fun F hF => fr_no h hL (List.mem_append_right _ hF)
  refine DW_cm D hd (fun F hF => by rw [hc F hF]; exact Int.le_refl _) (fun _ _ => rfl) ?_
  have Bc := D.2.2.2.2.1
  unfold cB at Bc ⊢
  rw [hc fW_kinds (by decide), hc fW_objects (by decide), hc fW_types (by decide), hc fW_values (by decide), hc fW_properties (by decide), hc fW_adjectives (by decide), hc fW_relations (by decide), hc fW_verbs (by decide), hc fW_actions (by decide)]
  exact Bc
def awC : List Nat := WKkC ++ WKoC ++ WKaC ++ WKtC ++ WKvC ++ WKpC ++ WKrC ++ WKbC ++ WKcC ++ r5C ++ dicL ++ cntL ++ tkA
def awM : List Nat := WKkM ++ WKoM ++ WKaM ++ WKtM ++ WKvM ++ WKpM ++ WKrM ++ WKbM ++ WKcM ++ r5M ++ lexL ++ tkM
theorem mem_all {L M : List Nat} (h : L.all (fun F => M.contains F) = true) : ∀ F, F ∈ L → F ∈ M := fun F hF => by
  have := (List.all_eq_true.mp h) F hF
  exact List.contains_iff_mem.mp this
/-- what lies beside the world may change -/
theorem AW_f {ρ υ ρ' υ' : ga_S} {g : Int} (A : AW σ τ g ρ υ) {L M : List Nat} (h : fr L ρ ρ') (hL : awC.all (fun F => !(L.contains F)) = true) (h2 : fr M υ υ') (hM : awM.all (fun F => !(M.contains F)) = true) : AW σ τ g ρ' υ' := by
  obtain ⟨A1, A2, ⟨Wk, Wo, Wa, Wt, Wv, Wp, Wr, Wb, Wc, Wd, Wl⟩, A4, A5, A6⟩ := A
  have c : ∀ K : List Nat, K.all (fun F => awC.contains F) = true → ∀ F, F ∈ K → ρ' F = ρ F := fun K hK F hF => fr_no h hL (mem_all hK F hF)
  have m : ∀ K : List Nat, K.all (fun F => awM.contains F) = true → ∀ F, F ∈ K → υ' F = υ F := fun K hK F hF => fr_no h2 hM (mem_all hK F hF)
  have hc := c cntL (by decide)
  have B : cB ρ' := by
    have Bc := A5.2.2.2.2.1
    unfold cB at Bc ⊢
    rw [hc fW_kinds (by decide), hc fW_objects (by decide), hc fW_types (by decide), hc fW_values (by decide), hc fW_properties (by decide), hc fW_adjectives (by decide), hc fW_relations (by decide), hc fW_verbs (by decide), hc fW_actions (by decide)]
    exact Bc
  have D' : DW ρ' υ' g := DW_cm A5 (c dicL (by decide)) (fun F hF => by rw [hc F hF]; exact Int.le_refl _) (m lexL (by decide)) B
  have tk := c tkA (by decide)
  have tz : ρ' fT_size 0 = ρ fT_size 0 ∧ ρ' fT_bytes 0 = ρ fT_bytes 0 := by rw [tk fT_size (by decide), tk fT_bytes (by decide)]; exact ⟨rfl, rfl⟩
  refine ⟨tkS_f A1 h (List.all_eq_true.mpr (fun F hF => List.all_eq_true.mp hL F (mem_all (by decide) F hF))), fun F hF => by rw [m tkM (by decide) F hF]; exact A2 F hF, ⟨WKk_f Wk (c _ (by decide)) (m _ (by decide)), WKo_f Wo (c _ (by decide)) (m _ (by decide)), WKa_f Wa (c _ (by decide)) (m _ (by decide)), WKt_f Wt (c _ (by decide)) (m _ (by decide)), WKv_f Wv (c _ (by decide)) (m _ (by decide)), WKp_f Wp (c _ (by decide)) (m _ (by decide)), WKr_f Wr (c _ (by decide)) (m _ (by decide)), WKb_f Wb (c _ (by decide)) (m _ (by decide)), WKc_f Wc (c _ (by decide)) (m _ (by decide)), D'.2.1, D'.2.2.1⟩, ⟨RWt_f A4.1 (c _ (by decide)) (m _ (by decide)), RWh_f A4.2.1 (c _ (by decide)) tz (m _ (by decide)), RWp_f A4.2.2.1 (c _ (by decide)) (m _ (by decide)), RWy_f A4.2.2.2.1 (c _ (by decide)) (m _ (by decide)), RWe_f A4.2.2.2.2 (c _ (by decide)) (m _ (by decide))⟩, D', kb0_f A6.1 (c _ (by decide)) (m [fM_kindHas] (by decide) _ (by decide)), NW_f A6.2 (c _ (by decide))⟩
theorem AW_sp {ρ υ ρ' : ga_S} {g : Int} (A : AW σ τ g ρ υ) (h : fr spL ρ ρ') : AW σ τ g ρ' υ := AW_f A h (by decide) (fr_refl [] υ) (by decide)
theorem k_objectAt (ET : ENV σ τ f N ∧ TOK σ τ f N) {ρ υ : ga_S} (S : tkS σ ρ) (R : RD ρ υ) {k a b : Int} (h : frB σ N a b) (hk : 0 ≤ k ∧ k < 5000) (ha : ρ fR_nameFrom 0 k = a) (hb : ρ fR_nameTo 0 k = b) {d : Nat} (hd : 5 ≤ d) : ∃ ρ', c_r_objectAt d ρ k = some (dN ρ (nmT σ a b) 2, ρ') ∧ fr spL ρ ρ' := by
  obtain ⟨d, rfl⟩ : ∃ e, d = e + 1 := ⟨d - 1, by omega⟩
  obtain ⟨ρ', a1, a2⟩ := k_meanA ET S R h (d := d) (by omega) 2
  refine ⟨ρ', ?_, a2⟩
  rw [e_r_objectAt, ck_ok _ hk, ck_ok _ hk, ha, hb, a1]
  rfl
def ojC : List Nat := noW ++ dicL ++ spL
def ojM : List Nat := noM ++ lexL
theorem obj_J (ET : ENV σ τ f N ∧ TOK σ τ f N) {ρ υ : ga_S} {g : Int} (A : AW σ τ g ρ υ) {r a b kd k : Int} (hr : RU σ τ f N r a b) (h1 : a < b) (hkd : 0 ≤ kd ∧ kd < ρ fW_kinds 0 0) (h : dN ρ (nmT σ a b) 2 ≠ -1 ∨ (fnd ρ (nmT σ a b) 0 = -1 ∧ b - a ≤ 3 ∧ ρ fW_objects 0 0 < 24)) (hk : 0 ≤ k ∧ k < 5000) (ha : ρ fR_nameFrom 0 k = a) (hb : ρ fR_nameTo 0 k = b) {d d' : Nat} (hd : 6 ≤ d) (hd' : 5 ≤ d') : ∃ o ρ' υ', c_r_objectFor d ρ k kd = some (o, ρ') ∧ c_m_objectTold d' υ r kd = some (o, υ') ∧ fr ojC ρ ρ' ∧ fr ojM υ υ' ∧ AW σ τ g ρ' υ' ∧ dN ρ' (nmT σ a b) 2 = o ∧ (0 ≤ o ∧ o < ρ' fW_objects 0 0) ∧ ρ' fW_objects 0 0 = ρ fW_objects 0 0 + (if dN ρ (nmT σ a b) 2 = -1 then 1 else 0) ∧ (∀ nm, fnd ρ nm 0 ≠ -1 → (fnd ρ' nm 0 ≠ -1 ∧ ∀ s, dN ρ' nm s = dN ρ nm s)) ∧ (∀ nm, nm ≠ nmT σ a b → fnd ρ nm 0 = -1 → fnd ρ' nm 0 = -1) ∧ (∀ i, 0 ≤ i → i < ρ fW_objects 0 0 → ρ' fW_kindOf 0 i = ρ fW_kindOf 0 i) ∧ (dN ρ (nmT σ a b) 2 = -1 → ρ' fW_kindOf 0 o = kd) := by
  obtain ⟨d, rfl⟩ : ∃ e, d = e + 1 := ⟨d - 1, by omega⟩
  obtain ⟨d', rfl⟩ : ∃ e, d' = e + 1 := ⟨d' - 1, by omega⟩
  have A' := A
  obtain ⟨A1, A2, A3, A4, A5, A6⟩ := A'
  obtain ⟨nm, en⟩ : ∃ x, x = nmT σ a b := ⟨_, rfl⟩
  obtain ⟨ρ1, k1, k2⟩ := k_objectAt ET A1 A5.1 hr.2.2.2 hk ha hb (d := d) (by omega)
  have m1 := m_meansA ET A2 A5.1 hr (d := d') (by omega) 4
  rw [mN_dN (s := 2) (by omega)] at m1
  rw [← en] at k1 m1 h ⊢
  have runC := e_r_objectFor d ρ k kd
  rw [k1] at runC
  simp only [Option.bind_some] at runC
  have runM := e_m_objectTold d' υ r kd
  rw [m1] at runM
  simp only [Option.bind_some] at runM
  have dic1 := dic_c (fr_mem k2 (M := dicL) (by decide))
  have Wo := A3.2.1
  by_cases c : dN ρ nm 2 = -1
  · obtain ⟨n1, n2, n3⟩ := h.resolve_left (fun z => z c)
    rw [if_pos c] at runC runM
    obtain ⟨o, eo⟩ : ∃ x, x = ρ fW_objects 0 0 := ⟨_, rfl⟩
    have AS := AW_sp A k2
    obtain ⟨S1, S2, S3, S4, S5, S6⟩ := AS
    have o1 : ρ1 fW_objects 0 0 = o := by rw [k2 _ (by decide)]; exact eo.symm
    have u1 : υ fM_objects 0 0 = o := by rw [Wo.2.2.1, eo]
    have o0 := Wo.1
    obtain ⟨ρ2, b1, b2, b3, b4, b5, b6, b7⟩ := k_newObject (ρ := ρ1) (kd := kd) o1 (by omega) (d := d) (by omega)
    obtain ⟨υ2, c1, c2, c3, c4, c5, c7, c8, c9⟩ := m_addObject (υ := υ) (kd := kd) u1 (by omega) (d := d') (by omega)
    have B2 : cB ρ2 := by
      have Bc := S5.2.2.2.2.1
      unfold cB at Bc ⊢
      rw [b2 fW_kinds (by decide), b3, b2 fW_adjectives (by decide), b2 fW_types (by decide), b2 fW_values (by decide), b2 fW_properties (by decide), b2 fW_relations (by decide), b2 fW_verbs (by decide), b2 fW_actions (by decide)]
      exact ⟨Bc.1, by omega, Bc.2.2⟩
    have D2 : DW ρ2 υ2 g := DW_cm S5 (fr_mem b2 (by decide)) (fun F hF => by
        by_cases z : F = fW_objects
        · rw [z, b3, o1]; omega
        · rw [b2 F (by revert z; revert F; decide)]; exact Int.le_refl _) (fr_mem c2 (by decide)) B2
    have dic2 := dic_c (fr_mem b2 (M := dicL) (by decide))
    have new2 : fnd ρ2 (nmT σ a b) 0 = -1 := by rw [dic2.1, dic1.1, ← en]; exact n1
    have mx : mxN ρ2 2 = o + 1 := b3
    obtain ⟨ρ3, υ3, t1, t2, t3, t4, t5, t6, t7⟩ := tell_J ET (tkS_g S1 b2 (by decide) (GC_o S1.2.2.2.2 b2 (by decide) (by rw [b3, o1]; omega) (fun i z0 z1 => by rw [b4, if_neg (by omega)]))) (tkT_f S2 c2 (by decide)) D2 (s := 2) (n := o) hr h1 n2 new2 (by omega) (by omega) (by omega) (by omega) (fun j l e => by
        have l' : live ρ1 j := by unfold live at l ⊢; rw [b2 fD_count (by decide), b2 fD_sorts (by decide)] at l; exact l
        have x := (S5.2.1 j l').1
        rw [b2 fD_sorts (by decide)] at e
        rw [e] at x
        rw [b2 fD_numbers (by decide)]
        have x' : ρ1 fD_numbers 0 j < ρ1 fW_objects 0 0 := x
        omega) (d := d) (d' := d') (by omega) (by omega)
    have t2' : c_m_tellRun d' υ2 4 o r = some (0, υ3) := by
      have e5 : sM 2 o = 4 := rfl
      have e6 : iM 2 o = o := by unfold iM; rw [if_neg (by omega)]
      rw [e5, e6] at t2; exact t2
    rw [← en] at t3 new2
    have W3 := W_newObj S3 S4 o1 (by omega) (by rw [k2 fW_kinds (by decide)]; exact hkd) b2 b3 b4 b5 b6 b7 c2 c3 c4 c5 c7 c8 c9 t3.1 t4.1 t5.2.1 t5.2.2.1
    have F := fnd_tell D2.1 t3 (by decide) new2
    have Fd := dN_tell D2.1 t3 (by decide) new2
    refine ⟨o, ρ3, υ3, ?_, ?_, fr_trans (fr_sub k2 (by decide)) (fr_trans (fr_sub b2 (by decide)) (fr_sub t3.1 (by decide))), fr_trans (fr_sub c2 (by decide)) (fr_sub t4.1 (by decide)), ⟨t6, t7, W3.1, W3.2, t5, ?_⟩, ?_, ?_, ?_, fun nm' z => ?_, fun nm' z1 z2 => ?_, fun i z0 z1 => ?_, fun _ => ?_⟩
    · rw [b1] at runC
      simp only [Option.bind_some] at runC
      rw [ck_ok _ hk, ck_ok _ hk, b2 fR_nameFrom (by decide), b2 fR_nameTo (by decide), k2 fR_nameFrom (by decide), k2 fR_nameTo (by decide), ha, hb, t1] at runC
      exact runC
    · rw [c1] at runM
      simp only [Option.bind_some] at runM
      rw [t2'] at runM
      exact runM
    · refine ⟨kb0_f (kb0_f S6.1 (fr_mem b2 (by decide)) (c2 _ (by decide))) (fr_mem t3.1 (by decide)) (t4.1 _ (by decide)), fun i z0 z1 => ?_, fun v z0 z1 => ?_⟩
      · by_cases c : i = o
        · rw [c]; exact tld_T D2.1.1 (by decide) t3 (wsT_W ET.2 hr.2.2.2) en
        · rw [t3.1 fW_objects (by decide), b3] at z1
          exact tld_X (tld_f (S6.2.1 i z0 (by omega)) (fr_mem b2 (by decide))) (by decide) (DX_tell (DX_r _) t3)
      · rw [t3.1 fW_values (by decide), b2 fW_values (by decide)] at z1
        exact tld_X (tld_f (S6.2.2 v z0 z1) (fr_mem b2 (by decide))) (by decide) (DX_tell (DX_r _) t3)
    · rw [Fd, if_pos rfl, if_pos rfl]
    · rw [t3.1 _ (by decide), b3]; omega
    · rw [t3.1 _ (by decide), b3, if_pos c]; omega
    · have ne : nm' ≠ nm := fun y => z (by rw [y]; exact n1)
      refine ⟨?_, fun s => ?_⟩
      · rw [F, dic2.1, dic1.1, if_neg z]; exact z
      · rw [Fd, if_neg ne, dic2.2.1, dic1.2.1]
    · rw [F, dic2.1, dic1.1, if_pos z2, if_neg z1]
    · rw [t3.1 _ (by decide), b4, if_neg (by omega), k2 _ (by decide)]
    · rw [t3.1 _ (by decide), b4, if_pos rfl]
  · rw [if_neg c] at runC runM
    have rn := dN_rg A5.1 A5.2.1 nm 2
    have m2 : mxN ρ 2 = ρ fW_objects 0 0 := rfl
    refine ⟨dN ρ nm 2, ρ1, υ, runC, runM, fr_sub k2 (by decide), fr_refl _ _, AW_sp A k2, by rw [dic1.2.1], ?_, ?_, fun nm' z => ⟨by rw [dic1.1]; exact z, fun s => by rw [dic1.2.1]⟩, fun nm' z1 z2 => by rw [dic1.1]; exact z2, fun i z0 z1 => by rw [k2 _ (by decide)], fun z => absurd z c⟩
    · rw [k2 fW_objects (by decide)]; omega
    · rw [k2 fW_objects (by decide), if_neg c]; omega
end

/-! one word of a description is told, and the kind: on both sides -/
section
variable {σ τ : ga_S} {f : Int} {N : Nat}
/-- a word that may be told -/
def itO (ρ : ga_S) (w v c : Int) : Prop := (v = -1 ∧ c = w ∧ 0 ≤ w ∧ w < ρ fW_adjectives 0 0 ∧ ρ fW_contraries 0 w ≠ -1) ∨ (v ≠ -1 ∧ 0 ≤ v ∧ v < ρ fW_values 0 0 ∧ c = 100 + 100 * v + w ∧ 0 ≤ w ∧ w < ρ fW_properties 0 0 ∧ ρ fW_valueTypes 0 v = ρ fW_propertyTypes 0 w)
def itC : List Nat := fW_told :: (stW ++ ntL)
def itM : List Nat := [fM_objectIs, fM_objectTold, fM_objectSays, fM_objectLong]
theorem item_J {ρ υ : ga_S} {g : Int} (A : AW σ τ g ρ υ) (hst : υ fM_story 0 = ρ fT_bytes 0) (sz : ρ fT_size 0 0 ≤ 5000) (hf : ρ fR_fault 0 0 = 0) {o w v c t : Int} (ho : 0 ≤ o ∧ o < ρ fW_objects 0 0) (hi : itO ρ w v c) (ht : 0 ≤ t ∧ t < 5002) {d d' : Nat} (hd : 3 ≤ d) (hd' : 4 ≤ d') : ∃ b ρ' υ', (if v = -1 then c_r_hold d ρ o w t else c_r_set d ρ o w v 0 t) = some (b, ρ') ∧ c_m_tellRead d' υ o c 1 = some (b, υ') ∧ (b = 0 ∨ b = 1) ∧ fr itC ρ ρ' ∧ fr itM υ υ' ∧ ((b = 1 ∧ fr (fW_told :: stW) ρ ρ' ∧ AW σ τ g ρ' υ') ∨ (b = 0 ∧ υ' = υ ∧ ρ' fR_fault 0 0 = 5 ∧ ρ' fR_where 0 0 = ρ fT_places 0 t)) := by
  have AA := A
  obtain ⟨A1, A2, ⟨Wk, Wo, Wa, Wt, Wv, Wp, _⟩, A4, A5, A6⟩ := A
  obtain ⟨d', rfl⟩ : ∃ e, d' = e + 1 := ⟨d' - 1, by omega⟩
  have o24 := Wo.2.1
  have v64 := Wv.2.1
  have p12 := Wp.2.1
  have a24 := Wa.2.1
  have run0 := e_m_tellRead d' υ o c 1
  rcases hi with ⟨i1, i2, i3, i4, i5⟩ | ⟨i1, i2, i3, i4, i5, i6, i7⟩
  · obtain ⟨b, ρ', υ', s1, s2, s3, s4, s5⟩ := hold_O Wa A4.1 hf (o := o) (a := w) (t := t) (a2 := w) (w := 1) ho o24 o24 (by have := Wk.2.1; omega) ⟨i3, i4⟩ i5 (Or.inl ⟨rfl, rfl⟩) ht (d := d) (d' := d') hd (by omega)
    have hb : b = 0 ∨ b = 1 := by rcases s5 with z | z; exact Or.inr z.1; exact Or.inl z.1
    rw [if_pos (by omega), w32_ok (x := 24 * o) (by omega), i2, s2] at run0
    simp only [Option.bind_some] at run0
    rw [z1_ok _ hb] at run0
    refine ⟨b, ρ', υ', by rw [if_pos i1]; exact s1, by rw [i2]; exact run0, hb, fr_sub s3 (by decide), fr_sub s4 (by decide), ?_⟩
    rcases s5 with ⟨z1, z2, z3⟩ | z
    · exact Or.inl ⟨z1, fr_sub z2 (by decide), AW_rt AA z2 (fr_sub s4 (by decide)) z3⟩
    · exact Or.inr z
  · have w0 := Wv.2.2.2 v i2 i3
    obtain ⟨b, ρ', υ', s1, s2, s3, s4, s5⟩ := set_O Wp A4.2.1 hst sz hf (o := o) (p := w) (v := v) (n := 0) (m := 0) (t := t) (fun _ => rfl) ho o24 o24 (by have := Wk.2.1; omega) ⟨i5, i6⟩ ⟨fun z => by omega, fun z => by omega, fun _ => ⟨i2, i3, i7⟩⟩ ht (d := d) (d' := d') hd (by omega)
    have hb : b = 0 ∨ b = 1 := by rcases s5 with z | z; exact Or.inr z.1; exact Or.inl z.1
    have e1 : w32 (Int.tmod c 100) = w := by rw [Int.tmod_eq_emod_of_nonneg (by omega), w32_ok (by omega)]; omega
    have e2 : w32 (Int.tdiv c 100) = v + 1 := by rw [Int.tdiv_eq_ediv_of_nonneg (by omega), w32_ok (by omega)]; omega
    rw [if_neg (by omega), e1, e2, w32_ok (x := v + 1 - 1) (by omega), show v + 1 - 1 = v by omega, s2] at run0
    simp only [Option.bind_some] at run0
    rw [z1_ok _ hb] at run0
    refine ⟨b, ρ', υ', by rw [if_neg i1]; exact s1, run0, hb, fr_sub s3 (by decide), fr_sub s4 (by decide), ?_⟩
    rcases s5 with ⟨z1, z2, z3⟩ | z
    · exact Or.inl ⟨z1, fr_sub z2 (by decide), AW_rh AA z2 (fr_sub s4 (by decide)) z3⟩
    · exact Or.inr z
theorem isB_anti {P : Int → Int} {n : Int} (hF : FO P n) {x y : Int} (hx : 0 ≤ x ∧ x < n) (hy : 0 ≤ y ∧ y < n) (h1 : isB P x y = true) (h2 : isB P y x = true) : x = y := by
  have a := (CH_mem hF x (by omega) hx.2 y (of_decide_eq_true h1)).2
  have b := (CH_mem hF y (by omega) hy.2 x (of_decide_eq_true h2)).2
  omega
/-- the kind is told of an object -/
theorem ofk_J {ρ υ : ga_S} {g : Int} (A : AW σ τ g ρ υ) (hf : ρ fR_fault 0 0 = 0) {o K t : Int} (ho : 0 ≤ o ∧ o < ρ fW_objects 0 0) (hK : 0 ≤ K ∧ K < ρ fW_kinds 0 0) (hr : υ fM_readKind 0 0 = K) (ht : 0 ≤ t ∧ t < 5002) (hsr : υ fM_sort 0 0 ≠ 13) (k r s : Int) (hr2 : 0 ≤ r ∧ r < 2600) {d d' : Nat} (hd : 4 ≤ d) (hd' : 1 ≤ d') : ∃ b ρ', c_r_ofKind d ρ o K t = some (b, ρ') ∧ (b = 0 ∨ b = 1) ∧ fr (fW_kindOf :: ntL) ρ ρ' ∧ ((b = 1 ∧ fr [fW_kindOf] ρ ρ' ∧ ∃ υ', m_doDescribed_60 d' υ k r o s = m_doDescribed_130 d' υ' k r o ∧ fr [fM_kindOf, fM_described] υ υ' ∧ υ' fM_described 0 0 = s ∧ AW σ τ g ρ' υ') ∨ (b = 0 ∧ ρ' fR_fault 0 0 = 5 ∧ ρ' fR_where 0 0 = ρ fT_places 0 t ∧ m_doDescribed_60 d' υ k r o s = (c_m_wrong d' (ga_up υ fM_described 0 0 s) 5 (υ fM_runFrom 0 r)).bind fun q4 => m_doDescribed_130 d' q4.2 k r o)) := by
  obtain ⟨υ1, e1⟩ : ∃ x, x = ga_up υ fM_described 0 0 s := ⟨_, rfl⟩
  have f1 : fr [fM_described] υ υ1 := by rw [e1]; exact fr_u (by decide)
  have AA := AW_f A (fr_refl [] ρ) (by decide) f1 (by decide)
  have de : υ1 fM_described 0 0 = s := by rw [e1, up_eq]
  obtain ⟨A1, A2, ⟨Wk, Wo, _⟩, A4, A5, A6⟩ := A
  obtain ⟨d, rfl⟩ : ∃ e, d = e + 1 := ⟨d - 1, by omega⟩
  have o24 := Wo.2.1
  have wo := Wo.2.2.2 o ho.1 ho.2
  have k1 := s_w_isKind (σ := ρ) Wk.1 (d := d) (by omega) (o := o) K (by omega) (by omega) wo.2.1
  have k2 := s_w_isBelow (σ := ρ) Wk.1 (d := d) (by omega) (k := K) (ρ fW_kindOf 0 o) (by omega) hK.2
  have ab1 : ∀ k, 0 ≤ k → k < ρ fW_kinds 0 0 → υ1 fM_above 0 k = ρ fW_parents 0 k := by intro k z0 z1; rw [f1 _ (by decide)]; exact Wk.2.2.2.1 k z0 z1
  have m1 := s_m_isBelow (τ := υ1) Wk.1 ab1 (d := d') hd' (k := K) (ρ fW_kindOf 0 o) (by omega) hK.2
  have m2 := s_m_isBelow (τ := υ1) Wk.1 ab1 (d := d') hd' (k := ρ fW_kindOf 0 o) K (by omega) wo.2.1
  have runC := e_r_ofKind d ρ o K t
  rw [k1] at runC
  simp only [Option.bind_some] at runC
  have runM := e_m_doDescribed_60 d' υ k r o s
  rw [if_neg hsr, ck_ok _ (by omega), ← e1, hr, wo.2.2, m1] at runM
  simp only [Option.bind_some] at runM
  cases q1 : isB (ρ fW_parents 0) (ρ fW_kindOf 0 o) K with
  | true =>
    rw [q1, if_neg b2i_n] at runC
    cases q2 : isB (ρ fW_parents 0) K (ρ fW_kindOf 0 o) with
    | true =>
      have ek : ρ fW_kindOf 0 o = K := isB_anti Wk.1 ⟨wo.1, wo.2.1⟩ hK q1 q2
      rw [q2, if_neg b2i_n, ck_ok _ (by omega), f1 fM_readKind (by decide), hr] at runM
      have us : ga_up υ1 fM_kindOf 0 o K = υ1 := by
        have e : υ1 fM_kindOf 0 o = K := by rw [f1 _ (by decide), wo.2.2, ek]
        have := up_self υ1 fM_kindOf 0 o
        rw [e] at this; exact this
      rw [us] at runM
      exact ⟨1, ρ, runC, Or.inr rfl, fr_refl _ _, Or.inl ⟨rfl, fr_refl _ _, υ1, runM, fr_sub f1 (by decide), de, AA⟩⟩
    | false =>
      rw [q2, if_pos b2i_f, ck_ok _ (by omega), f1 fM_kindOf (by decide), f1 fM_readKind (by decide), hr, wo.2.2, m2] at runM
      simp only [Option.bind_some] at runM
      rw [q1, if_neg b2i_n] at runM
      exact ⟨1, ρ, runC, Or.inr rfl, fr_refl _ _, Or.inl ⟨rfl, fr_refl _ _, υ1, runM, fr_sub f1 (by decide), de, AA⟩⟩
  | false =>
    rw [q1, if_pos b2i_f, ck_ok _ (by omega), k2] at runC
    simp only [Option.bind_some] at runC
    cases q2 : isB (ρ fW_parents 0) K (ρ fW_kindOf 0 o) with
    | true =>
      rw [q2, if_neg b2i_n, ck_ok _ (by omega)] at runC
      rw [q2, if_neg b2i_n, ck_ok _ (by omega), f1 fM_readKind (by decide), hr] at runM
      obtain ⟨ρ', e2⟩ : ∃ x, x = ga_up ρ fW_kindOf 0 o K := ⟨_, rfl⟩
      obtain ⟨υ', e3⟩ : ∃ x, x = ga_up υ1 fM_kindOf 0 o K := ⟨_, rfl⟩
      rw [← e2] at runC
      rw [← e3] at runM
      have f2 : fr [fW_kindOf] ρ ρ' := by rw [e2]; exact fr_u (by decide)
      have f3 : fr [fM_kindOf] υ1 υ' := by rw [e3]; exact fr_u (by decide)
      refine ⟨1, ρ', runC, Or.inr rfl, fr_sub f2 (by decide), Or.inl ⟨rfl, f2, υ', runM, fr_trans (fr_sub f1 (by decide)) (fr_sub f3 (by decide)), by rw [f3 _ (by decide)]; exact de, AW_ko AA f2 f3 ?_ (GC_k A1.2.2.2.2 Wk.1 f2 (fun i z0 z1 => ?_)) (fun i z0 z1 => by
        by_cases c : i = o
        · exact Or.inr (by rw [e2, c, up_eq]; exact q2)
        · exact Or.inl (by rw [e2, up_i c]))⟩⟩
      rotate_left
      · by_cases c : i = o
        · refine Or.inr ?_
          rw [e2, c, up_eq]
          exact ⟨by omega, q2⟩
        · exact Or.inl (by rw [e2, up_i c])
      refine ⟨by rw [f2 _ (by decide)]; exact Wo.1, by rw [f2 _ (by decide)]; exact o24, by rw [f2 _ (by decide), f3 _ (by decide), f1 _ (by decide)]; exact Wo.2.2.1, fun i z0 z1 => ?_⟩
      rw [f2 fW_objects (by decide)] at z1
      rw [e2, e3, up_at, up_at, up_F (by decide), f1 fM_kindOf (by decide)]
      by_cases c : i = o
      · rw [if_pos c, if_pos c]; exact ⟨hK.1, hK.2, rfl⟩
      · rw [if_neg c, if_neg c]; exact Wo.2.2.2 i z0 z1
    | false =>
      obtain ⟨ρ', o1, o2, o3, o4⟩ := k_otherwise hf ht (d := d) (by omega)
      rw [q2, if_pos b2i_f, o1] at runC
      simp only [Option.bind_some] at runC
      rw [z1_ok _ (Or.inl rfl)] at runC
      rw [q2, if_pos b2i_f, ck_ok _ (by omega), f1 fM_kindOf (by decide), f1 fM_readKind (by decide), hr, wo.2.2, m2] at runM
      simp only [Option.bind_some] at runM
      rw [q1, if_pos b2i_f, ck_ok _ hr2, f1 fM_runFrom (by decide), e1] at runM
      exact ⟨0, ρ', runC, Or.inl rfl, fr_sub o2 (by decide), Or.inr ⟨rfl, o3, o4, runM⟩⟩
end

/-! the act of adjectives -/
section
variable {σ τ : ga_S} {f : Int} {N : Nat}
theorem AW_E (ET : ENV σ τ f N ∧ TOK σ τ f N) {ρ υ : ga_S} {g : Int} (A : AW σ τ g ρ υ) : E0 ρ υ f N := ⟨(tk_env ET A.1 A.2.1).1, (tk_env ET A.1 A.2.1).2, A.2.2.2.2.1.1, A.2.2.1⟩
theorem nmT_S {ρ : ga_S} (S : tkS σ ρ) (a b : Int) : nmT ρ a b = nmT σ a b := by
  unfold nmT wsT wT
  rw [S.1 fT_places (by decide), S.1 fT_lengths (by decide), S.2.1]
theorem frB_S {ρ : ga_S} (S : tkS σ ρ) {a b : Int} (h : frB σ N a b) : frB ρ N a b := by
  unfold frB at h ⊢
  rw [S.1 fT_kinds (by decide)]
  exact h
def ajF : List Nat := dicL ++ [fW_parents, fW_adjectiveKinds, fW_contraries, fW_valueTypes, fW_properties, fW_propertyTypes, fW_propertyKinds]
theorem aL_c {ρ : ga_S} (h : ∀ F, F ∈ ajF → ρ F = σ F) : aC ρ = aC σ ∧ aL ρ = aL σ ∧ aP ρ = aP σ ∧ fvN ρ = fvN σ ∧ dN ρ = dN σ := by
  have D := (dic_c (σ := σ) (σ' := ρ) (fun F hF => h F (List.mem_append_left _ hF))).2.1
  have e1 := h fW_parents (by decide)
  have e2 := h fW_adjectiveKinds (by decide)
  have e3 := h fW_contraries (by decide)
  have e4 := h fW_valueTypes (by decide)
  have e5 := h fW_properties (by decide)
  have e6 := h fW_propertyTypes (by decide)
  have e7 := h fW_propertyKinds (by decide)
  have f1 : fvN ρ = fvN σ := by funext nm nv; unfold fvN; rw [D]
  have f2 : plV ρ = plV σ := by funext k v; unfold plV PL own; rw [e1, e4, e5, e6, e7]
  have f3 : fitA ρ = fitA σ := by funext k a df; unfold fitA; rw [e1, e2, e3]
  refine ⟨?_, ?_, ?_, f1, D⟩
  · funext nm k nv df; unfold aC; rw [D, f1, f2, f3]
  · funext nm k nv df; unfold aL; rw [D, f1, f2, f3]
  · funext nm k nv; unfold aP; rw [D, f1, f2]
/-- the one reading of an adjective -/
theorem aL_one (E : E0 σ τ f N) {nm : List Int} {kind : Int} {nv : Bool} (h : aC σ nm kind nv false = 1) : ∃ x, aL σ nm kind nv false = [x] ∧ itO σ (if dN σ nm 3 = -1 then aP σ nm kind nv else dN σ nm 3) (if dN σ nm 3 = -1 then fvN σ nm nv else -1) x ∧ (nv = true → dN σ nm 3 ≠ -1 ∧ x = dN σ nm 3) := by
  obtain ⟨h1, _, h3⟩ := aC_L E nm kind nv false
  have l1 := h1.2.2.mp h
  obtain ⟨x, ex⟩ := List.length_eq_one_iff.mp l1
  have rd := h3 x ex
  have ok := aL_ok E (nm := nm) (kind := kind) (nv := nv) (df := false) (c := x) (by rw [ex]; exact List.mem_singleton.mpr rfl)
  have a24 := E.2.2.2.2.2.1.2.1
  refine ⟨x, ex, ?_, ?_⟩
  · obtain ⟨w, ew⟩ : ∃ w, w = (if dN σ nm 3 = -1 then aP σ nm kind nv else dN σ nm 3) := ⟨_, rfl⟩
    obtain ⟨v, ev⟩ : ∃ v, v = (if dN σ nm 3 = -1 then fvN σ nm nv else -1) := ⟨_, rfl⟩
    rw [← ew, ← ev] at rd ⊢
    rcases rd with ⟨r1, r2, r3, r4⟩ | ⟨r1, r2, r3, r4, r5⟩
    · rcases ok with ⟨o1, o2, o3⟩ | ⟨v', p', o1, o2, _⟩
      · unfold fitA at o3
        have o4 := (Bool.and_eq_true _ _).mp o3
        have o5 : decide (σ fW_contraries 0 x ≠ -1) = true := by
          have := o4.2
          rw [Bool.false_or] at this; exact this
        rw [r2] at o1 o2 o5
        exact Or.inl ⟨r1, r2, o1, o2, of_decide_eq_true o5⟩
      · omega
    · rcases ok with ⟨o1, o2, o3⟩ | ⟨v', p', o1, o2, o3, o4, o5⟩
      · omega
      · have ep : p' = w := by have := E.2.2.2.2.2.2.2.2.1.2.1; omega
        have ev' : v' = v := by have := E.2.2.2.2.2.2.2.2.1.2.1; omega
        rw [ep] at o3 o5
        rw [ev'] at o2 o5
        exact Or.inr ⟨by omega, o2.1, o2.2, r3, o3.1, o3.2, o5⟩
  · intro z
    rw [z] at h ex
    have d3 : dN σ nm 3 ≠ -1 := by
      intro y
      unfold aC fvN at h
      rw [if_pos y, if_pos rfl, if_pos rfl] at h
      exact absurd h (by decide)
    refine ⟨d3, ?_⟩
    unfold aL at ex
    rw [if_neg d3] at ex
    by_cases c : fitA σ kind (dN σ nm 3) false = true
    · rw [if_pos c] at ex; exact (List.cons.inj ex).1.symm
    · rw [if_neg c] at ex; cases ex
/-- not an adjective is its contrary -/
theorem item_N {ρ υ : ga_S} {g : Int} (A : AW σ τ g ρ υ) (hf : ρ fR_fault 0 0 = 0) {o a t : Int} (ho : 0 ≤ o ∧ o < ρ fW_objects 0 0) (ha : 0 ≤ a ∧ a < ρ fW_adjectives 0 0) (hc : ρ fW_contraries 0 a ≠ -1) (ht : 0 ≤ t ∧ t < 5002) {d d' : Nat} (hd : 3 ≤ d) (hd' : 4 ≤ d') : ∃ b ρ' υ', c_r_hold d ρ o (ρ fW_contraries 0 a) t = some (b, ρ') ∧ c_m_tellRead d' υ o a 0 = some (b, υ') ∧ (b = 0 ∨ b = 1) ∧ fr itC ρ ρ' ∧ fr itM υ υ' ∧ ((b = 1 ∧ fr (fW_told :: stW) ρ ρ' ∧ AW σ τ g ρ' υ') ∨ (b = 0 ∧ υ' = υ ∧ ρ' fR_fault 0 0 = 5 ∧ ρ' fR_where 0 0 = ρ fT_places 0 t)) := by
  have AA := A
  obtain ⟨A1, A2, ⟨Wk, Wo, Wa, Wt, Wv, Wp, _⟩, A4, A5, A6⟩ := A
  obtain ⟨d', rfl⟩ : ∃ e, d' = e + 1 := ⟨d' - 1, by omega⟩
  have o24 := Wo.2.1
  have a24 := Wa.2.1
  have wa := (Wa.2.2.2 a ha.1 ha.2).2.resolve_left (fun z => hc z.1)
  have run0 := e_m_tellRead d' υ o a 0
  obtain ⟨b, ρ', υ', s1, s2, s3, s4, s5⟩ := hold_O Wa A4.1 hf (o := o) (a := ρ fW_contraries 0 a) (t := t) (a2 := a) (w := 0) ho o24 o24 (by have := Wk.2.1; omega) ⟨wa.1, wa.2.1⟩ (by rw [wa.2.2.2.1]; omega) (Or.inr ⟨wa.2.2.2.1.symm, rfl⟩) ht (d := d) (d' := d') hd (by omega)
  have hb : b = 0 ∨ b = 1 := by rcases s5 with z | z; exact Or.inr z.1; exact Or.inl z.1
  rw [if_pos (by omega), w32_ok (x := 24 * o) (by omega), s2] at run0
  simp only [Option.bind_some] at run0
  rw [z1_ok _ hb] at run0
  refine ⟨b, ρ', υ', s1, run0, hb, fr_sub s3 (by decide), fr_sub s4 (by decide), ?_⟩
  rcases s5 with ⟨z1, z2, z3⟩ | z
  · exact Or.inl ⟨z1, fr_sub z2 (by decide), AW_rt AA z2 (fr_sub s4 (by decide)) z3⟩
  · exact Or.inr z
def ajC : List Nat := itC ++ adL
def ajM : List Nat := itM ++ adM ++ [fM_described, fM_bestFault, fM_bestPlace]
/-- ahead of name k -/
def AJ (σ τ : ga_S) (g : Int) (ρ υ : ga_S) (k : Int) : Prop := AW σ τ g ρ υ ∧ fr ajC σ ρ ∧ fr ajM τ υ ∧ ρ fR_fault 0 0 = 0 ∧ υ fM_bestFault 0 0 = 0 ∧ (0 < k → υ fM_described 0 0 = dN σ (nN σ 0) 2)
theorem aj_step (E : E0 σ τ f N) {g : Int} (hst : τ fM_story 0 = σ fT_bytes 0) (nt : Bool) (hnt : σ fR_not 0 0 = b2i nt) (hnt' : τ fM_isNot 0 0 = b2i nt) (hl : τ fM_listFrom 0 0 = 0 ∧ τ fM_listSize 0 0 = σ fR_names 0 0) (hw : 0 ≤ τ fM_what 0 0 ∧ τ fM_what 0 0 < 2600) (R0 : RU σ τ f N (τ fM_what 0 0) (σ fR_runFrom 0 0) (σ fR_runTo 0 0)) (hn : ∀ k, 0 ≤ k → k < σ fR_names 0 0 → RU σ τ f N k (σ fR_nameFrom 0 k) (σ fR_nameTo 0 k)) (hob : ∀ k, 0 ≤ k → k < σ fR_names 0 0 → dN σ (nN σ k) 2 ≠ -1 ∧ aC σ (nR σ 0) (σ fW_kindOf 0 (dN σ (nN σ k) 2)) nt false = 1) {k : Int} (hk : 0 ≤ k ∧ k < σ fR_names 0 0) (hk5 : k < 2500) {ρ υ : ga_S} (H : AJ σ τ g ρ υ k) {d d' : Nat} (hd : 6 ≤ d) (hd' : 5 ≤ d') : (∃ ρ' υ', r_adjectives_95 d ρ (σ fR_runFrom 0 0) (σ fR_runTo 0 0) k = r_adjectives_95 d ρ' (σ fR_runFrom 0 0) (σ fR_runTo 0 0) (k + 1) ∧ m_doFifteen_190 d' υ (f + σ fR_runFrom 0 0) k = m_doFifteen_190 d' υ' (f + σ fR_runFrom 0 0) (k + 1) ∧ AJ σ τ g ρ' υ' (k + 1)) ∨ (∃ ρ' υ', r_adjectives_95 d ρ (σ fR_runFrom 0 0) (σ fR_runTo 0 0) k = some (0, ρ') ∧ m_doFifteen_190 d' υ (f + σ fR_runFrom 0 0) k = some (0, υ') ∧ AF ρ' υ' 5 (σ fT_places 0 (σ fR_nameFrom 0 k)) ∧ fr ajC σ ρ' ∧ fr ajM τ υ') := by
  have ET : ENV σ τ f N ∧ TOK σ τ f N := ⟨E.1, E.2.1⟩
  obtain ⟨A, S1, S2, S3, S4, S5⟩ := H
  have RN := hn k hk.1 hk.2
  have t0 := frB_t RN.2.2.2
  have hN5 := E.1.2.2.1
  have fN := E.1.2.1
  have f0 := E.1.1
  obtain ⟨hO, hA⟩ := hob k hk.1 hk.2
  obtain ⟨o, eo⟩ : ∃ x, x = dN σ (nN σ k) 2 := ⟨_, rfl⟩
  have rO := e0_dN E (nN σ k) 2
  have m2 : mxN σ 2 = σ fW_objects 0 0 := rfl
  rw [← eo] at hO hA rO
  have o24 := E.2.2.2.2.1.2.1
  have wo := E.2.2.2.2.1.2.2.2 o (by omega) (by omega)
  have ac := aL_c (fr_mem S1 (M := ajF) (by decide))
  -- the object
  obtain ⟨ρ1, a1, a2⟩ := k_objectAt ET A.1 A.2.2.2.2.1.1 (k := k) RN.2.2.2 (by omega) (by rw [S1 _ (by decide)]) (by rw [S1 _ (by decide)]) (d := d) (by omega)
  have a1' : c_r_objectAt d ρ k = some (o, ρ1) := by rw [a1, ac.2.2.2.2, eo]; rfl
  have A1 := AW_sp A a2
  have E1 := AW_E ET A1
  have m1 : c_m_meansRun d' υ k 4 = some (o, υ) := by
    rw [m_meansA ET A.2.1 A.2.2.2.2.1.1 RN (by omega) 4, mN_dN (s := 2) (by omega), ac.2.2.2.2, eo]; rfl
  -- the adjective
  have ac1 := aL_c (σ := σ) (ρ := ρ1) (fun F hF => by rw [fr_mem a2 (M := ajF) (by decide) F hF]; exact fr_mem S1 (M := ajF) (by decide) F hF)
  have kd : ρ1 fW_kindOf 0 o = σ fW_kindOf 0 o := by rw [a2 _ (by decide), S1 _ (by decide)]
  have kds : ρ1 fW_kinds 0 0 = σ fW_kinds 0 0 := by rw [a2 _ (by decide), S1 _ (by decide)]
  obtain ⟨ρ2, b1, b2, b3, b4, b5, b6⟩ := k_adjective E1 (KC_r ρ1) (frB_S A1.1 R0.2.2.2) (kind := σ fW_kindOf 0 o) (by rw [kds]; exact ⟨wo.1, wo.2.1⟩) nt false (d := d) (by omega)
  rw [nmT_S A1.1] at b1 b4 b5 b6
  rw [ac1.1] at b1
  rw [ac1.2.2.2.2] at b4
  rw [ac1.2.2.2.1] at b5
  rw [ac1.2.2.1] at b6
  obtain ⟨s, es⟩ : ∃ x, x = (if k = 0 then o else υ fM_described 0 0) := ⟨_, rfl⟩
  obtain ⟨υ1, e1⟩ : ∃ x, x = ga_up υ fM_described 0 0 s := ⟨_, rfl⟩
  have f1 : fr [fM_described] υ υ1 := by rw [e1]; exact fr_u (by decide)
  have A1' := AW_f A1 (fr_refl [] ρ1) (by decide) f1 (by decide)
  obtain ⟨υ2, c1, c2, c3, c4⟩ := m_adjective (AW_E ET A1') (fr_refl _ υ1) (t := f + σ fR_runFrom 0 0) (n := σ fR_runTo 0 0 - σ fR_runFrom 0 0) (frB_S A1.1 R0.2.2.2) rfl rfl (kind := σ fW_kindOf 0 o) (by rw [kds]; exact ⟨wo.1, wo.2.1⟩) false (!nt) (d := d') (by omega)
  rw [nmT_S A1.1, ac1.2.1, Bool.not_not] at c1 c4
  obtain ⟨x, x1, x2, x3⟩ := aL_one E (nm := nR σ 0) (kind := σ fW_kindOf 0 o) (nv := nt) hA
  have x1' : aL σ (nmT σ (σ fR_runFrom 0 0) (σ fR_runTo 0 0)) (σ fW_kindOf 0 o) nt false = [x] := x1
  rw [x1'] at c1 c4
  have c4' : υ2 fM_foundAdjective 0 0 = x := c4 (by simp)
  have A2 := AW_f A1' b2 (by decide) c2 (by decide)
  obtain ⟨dn, edn⟩ : ∃ y, y = dN σ (nR σ 0) 3 := ⟨_, rfl⟩
  have b4' : ρ2 fR_foundAdjective 0 0 = dn := by rw [edn]; exact b4
  have f2 : ρ2 fR_fault 0 0 = 0 := by rw [b2 _ (by decide), a2 _ (by decide)]; exact S3
  have g2 : υ2 fM_bestFault 0 0 = 0 := by rw [c2 _ (by decide), f1 _ (by decide)]; exact S4
  have ho2 : 0 ≤ o ∧ o < ρ2 fW_objects 0 0 := by rw [b2 _ (by decide), a2 _ (by decide), S1 _ (by decide)]; omega
  have fC2 : fr ajC σ ρ2 := fr_trans S1 (fr_trans (fr_sub a2 (by decide)) (fr_sub b2 (by decide)))
  have fM2 : fr ajM τ υ2 := fr_trans S2 (fr_trans (fr_sub f1 (by decide)) (fr_sub c2 (by decide)))
  -- the telling
  have tell : ∃ b ρ3 υ3, r_adjectives_95 d ρ (σ fR_runFrom 0 0) (σ fR_runTo 0 0) k = r_adjectives_202 d ρ3 (σ fR_runFrom 0 0) (σ fR_runTo 0 0) k b ∧ c_m_tellRead d' υ2 o x (b2i (!nt)) = some (b, υ3) ∧ fr itC ρ2 ρ3 ∧ fr itM υ2 υ3 ∧ ((b = 1 ∧ fr (fW_told :: stW) ρ2 ρ3 ∧ AW σ τ g ρ3 υ3) ∨ (b = 0 ∧ υ3 = υ2 ∧ ρ3 fR_fault 0 0 = 5 ∧ ρ3 fR_where 0 0 = ρ2 fT_places 0 (σ fR_nameFrom 0 k))) := by
    have nm0 : ρ2 fR_nameFrom 0 k = σ fR_nameFrom 0 k := by rw [fC2 _ (by decide)]
    have run0 : r_adjectives_95 d ρ (σ fR_runFrom 0 0) (σ fR_runTo 0 0) k = (if ρ2 fR_foundAdjective 0 0 = -1 then ga_ck k 5000 ((c_r_set d ρ2 o (ρ2 fR_foundProperty 0 0) (ρ2 fR_foundValue 0 0) 0 (ρ2 fR_nameFrom 0 k)).bind fun q7 => r_adjectives_202 d q7.2 (σ fR_runFrom 0 0) (σ fR_runTo 0 0) k q7.1) else if ρ2 fR_not 0 0 = 0 then r_adjectives_169 d ρ2 (σ fR_runFrom 0 0) (σ fR_runTo 0 0) k (ρ2 fR_foundAdjective 0 0) o else ga_ck (ρ2 fR_foundAdjective 0 0) 24 (r_adjectives_169 d ρ2 (σ fR_runFrom 0 0) (σ fR_runTo 0 0) k (ρ2 fW_contraries 0 (ρ2 fR_foundAdjective 0 0)) o)) := by
      rw [e_r_adjectives_95, S1 fR_names (by decide), if_pos hk.2, a1']
      simp only [Option.bind_some]
      have no : ρ1 fR_not 0 0 = b2i nt := by rw [a2 _ (by decide), S1 _ (by decide)]; exact hnt
      rw [ck_ok _ (by omega), kd, no]
      have b1' : c_r_adjective d ρ1 (σ fR_runFrom 0 0) (σ fR_runTo 0 0) (σ fW_kindOf 0 o) (b2i nt) 0 = some (_, ρ2) := b1
      rw [b1']
      simp only [Option.bind_some]
    have no2 : ρ2 fR_not 0 0 = b2i nt := by rw [fC2 _ (by decide)]; exact hnt
    rw [no2, nm0] at run0
    cases hnt2 : nt with
    | false =>
      rw [hnt2] at run0 x2 b5 b6 x1
      have io : itO ρ2 (if dn = -1 then aP σ (nR σ 0) (σ fW_kindOf 0 o) false else dn) (if dn = -1 then fvN σ (nR σ 0) false else -1) x := by
        rw [edn]
        unfold itO at x2 ⊢
        rw [fC2 fW_adjectives (by decide), fC2 fW_contraries (by decide), fC2 fW_values (by decide), fC2 fW_properties (by decide), fC2 fW_valueTypes (by decide), fC2 fW_propertyTypes (by decide)]
        exact x2
      have hst2 : υ2 fM_story 0 = ρ2 fT_bytes 0 := by rw [fM2 _ (by decide), fC2 _ (by decide)]; exact hst
      have sz2 : ρ2 fT_size 0 0 ≤ 5000 := by rw [fC2 _ (by decide)]; exact E.2.1.1.1
      obtain ⟨b, ρ3, υ3, s1, s2, s3, s4, s5, s6⟩ := item_J A2 hst2 sz2 f2 ho2 io (t := σ fR_nameFrom 0 k) (by omega) (d := d) (d' := d') (by omega) (by omega)
      refine ⟨b, ρ3, υ3, ?_, s2, s4, s5, s6⟩
      by_cases q : dn = -1
      · rw [if_pos q, if_pos q] at s1
        have vn : fvN σ (nR σ 0) false ≠ -1 := by
          intro z
          have y := x2
          rw [← edn, if_pos q, if_pos q, z] at y
          rcases y with y | y
          · have a24 := E.2.2.2.2.2.1.2.1
            have hA' := hA
            rw [hnt2] at hA'
            unfold aC at hA'
            rw [← edn, if_pos q, if_pos z] at hA'
            exact absurd hA' (by decide)
          · exact y.1 rfl
        rw [if_neg vn] at s1
        have p6 : ρ2 fR_foundProperty 0 0 = aP σ (nR σ 0) (σ fW_kindOf 0 o) false := b6
        have p5 : ρ2 fR_foundValue 0 0 = fvN σ (nR σ 0) false := b5
        rw [run0, if_pos (b4'.trans q), ck_ok _ (by omega), p6, p5, s1]
        simp only [Option.bind_some]
      · rw [if_neg q, if_neg q, if_pos rfl] at s1
        rw [run0, b4', if_neg q, if_pos b2i_f, e_r_adjectives_169, ck_ok _ (by omega), nm0, s1]
        simp only [Option.bind_some]
    | true =>
      rw [hnt2] at run0
      obtain ⟨y1, y2⟩ := x3 hnt2
      rw [← edn] at y1 y2
      have y3 := x2
      rw [← edn, if_neg y1, if_neg y1] at y3
      have y4 : 0 ≤ dn ∧ dn < σ fW_adjectives 0 0 ∧ σ fW_contraries 0 dn ≠ -1 := by
        rcases y3 with z | z
        · exact ⟨z.2.2.1, z.2.2.2.1, z.2.2.2.2⟩
        · exact absurd rfl z.1
      have a24 := E.2.2.2.2.2.1.2.1
      obtain ⟨b, ρ3, υ3, s1, s2, s3, s4, s5, s6⟩ := item_N A2 f2 ho2 (a := dn) (t := σ fR_nameFrom 0 k) (by rw [fC2 fW_adjectives (by decide)]; omega) (by rw [fC2 fW_contraries (by decide)]; exact y4.2.2) (by omega) (d := d) (d' := d') (by omega) (by omega)
      refine ⟨b, ρ3, υ3, ?_, by rw [y2]; exact s2, s4, s5, s6⟩
      rw [run0, b4', if_neg y1, if_neg (by decide), ck_ok _ (by omega), e_r_adjectives_169, ck_ok _ (by omega), nm0, s1]
      simp only [Option.bind_some]
  obtain ⟨b, ρ3, υ3, r1, r2, r3, r4, r5⟩ := tell
  have runM : m_doFifteen_190 d' υ (f + σ fR_runFrom 0 0) k = (if b = 0 then ga_ck k 2600 ((c_m_wrong d' υ3 5 (υ3 fM_runFrom 0 k)).bind fun q11 => m_doFifteen_307 d' q11.2 (f + σ fR_runFrom 0 0) k) else m_doFifteen_307 d' υ3 (f + σ fR_runFrom 0 0) k) := by
    have hls : υ fM_listSize 0 0 = σ fR_names 0 0 := by rw [S2 _ (by decide)]; exact hl.2
    have hlf : υ fM_listFrom 0 0 = 0 := by rw [S2 _ (by decide)]; exact hl.1
    have hwh : υ fM_what 0 0 = τ fM_what 0 0 := by rw [S2 _ (by decide)]
    have hin : υ fM_isNot 0 0 = b2i nt := by rw [S2 _ (by decide)]; exact hnt'
    have hrs : υ fM_runSize 0 (τ fM_what 0 0) = σ fR_runTo 0 0 - σ fR_runFrom 0 0 := by rw [S2 _ (by decide)]; exact R0.2.2.1
    have hko : υ fM_kindOf 0 o = σ fW_kindOf 0 o := by rw [S2 _ (by decide)]; exact wo.2.2
    have hlf3 : υ3 fM_listFrom 0 0 = 0 := by rw [r4 _ (by decide), c2 _ (by decide), f1 _ (by decide)]; exact hlf
    have hin2 : υ2 fM_isNot 0 0 = b2i nt := by rw [c2 _ (by decide), f1 _ (by decide)]; exact hin
    have r263 : m_doFifteen_263 d' υ1 (f + σ fR_runFrom 0 0) k o (b2i (!nt)) 0 (σ fW_kindOf 0 o) (σ fR_runTo 0 0 - σ fR_runFrom 0 0) (f + σ fR_runFrom 0 0) = (if b = 0 then ga_ck k 2600 ((c_m_wrong d' υ3 5 (υ3 fM_runFrom 0 k)).bind fun q11 => m_doFifteen_307 d' q11.2 (f + σ fR_runFrom 0 0) k) else m_doFifteen_307 d' υ3 (f + σ fR_runFrom 0 0) k) := by
      have c1' : c_m_adjective d' υ1 (f + σ fR_runFrom 0 0) (σ fR_runTo 0 0 - σ fR_runFrom 0 0) (σ fW_kindOf 0 o) 0 (b2i (!nt)) = some (_, υ2) := c1
      have r285 : m_doFifteen_285 d' υ2 (f + σ fR_runFrom 0 0) k (b2i (!nt)) x o = (if b = 0 then ga_ck k 2600 ((c_m_wrong d' υ3 5 (υ3 fM_runFrom 0 k)).bind fun q11 => m_doFifteen_307 d' q11.2 (f + σ fR_runFrom 0 0) k) else m_doFifteen_307 d' υ3 (f + σ fR_runFrom 0 0) k) := by
        rw [e_m_doFifteen_285, r2]
        simp only [Option.bind_some]
        rw [hlf3, show (0 : Int) + k = k by omega, w32_ok (x := k) (by omega)]
      rw [e_m_doFifteen_263, c1']
      simp only [Option.bind_some]
      rw [hin2, c4']
      cases hq : nt with
      | false => rw [hq] at r285; rw [if_pos (by decide)]; exact r285
      | true => rw [hq] at r285; rw [if_neg (by decide)]; exact r285
    have r230 : m_doFifteen_230 d' υ (f + σ fR_runFrom 0 0) k o s = (if b = 0 then ga_ck k 2600 ((c_m_wrong d' υ3 5 (υ3 fM_runFrom 0 k)).bind fun q11 => m_doFifteen_307 d' q11.2 (f + σ fR_runFrom 0 0) k) else m_doFifteen_307 d' υ3 (f + σ fR_runFrom 0 0) k) := by
      rw [e_m_doFifteen_230, hwh, ck_ok _ hw, ck_ok _ (by omega), hin, ← e1, hko, hrs]
      cases hq : nt with
      | false => rw [hq] at r263; rw [if_pos (by decide)]; exact r263
      | true => rw [hq] at r263; rw [if_neg (by decide)]; exact r263
    rw [e_m_doFifteen_190, hls, if_pos hk.2, if_pos S4, hlf, show (0 : Int) + k = k by omega, w32_ok (x := k) (by omega), m1]
    simp only [Option.bind_some]
    by_cases q : k = 0
    · rw [if_pos q] at es; rw [es] at r230; rw [if_pos q]; exact r230
    · rw [if_neg q] at es; rw [es] at r230; rw [if_neg q]; exact r230
  rcases r5 with ⟨z, z1, z2⟩ | ⟨z, z1, z2, z3⟩
  · rw [z, e_r_adjectives_202, if_neg (by decide), w32_ok (x := k + 1) (by omega)] at r1
    rw [z, if_neg (by decide), e_m_doFifteen_307, w32_ok (x := k + 1) (by omega)] at runM
    refine Or.inl ⟨ρ3, υ3, r1, runM, z2, fr_trans fC2 (fr_sub r3 (by decide)), fr_trans fM2 (fr_sub r4 (by decide)), by rw [z1 _ (by decide)]; exact f2, by rw [r4 _ (by decide)]; exact g2, fun _ => ?_⟩
    rw [r4 _ (by decide), c2 _ (by decide), e1, up_eq, es]
    by_cases q : k = 0
    · rw [if_pos q, eo, q]
    · rw [if_neg q]; exact S5 (by omega)
  · rw [z, e_r_adjectives_202, if_pos rfl] at r1
    have rf : υ2 fM_runFrom 0 k = f + σ fR_nameFrom 0 k := by rw [fM2 _ (by decide)]; exact RN.2.1
    obtain ⟨υ4, w1, w2, w3, w4⟩ := m_wrongA g2 (t := f + σ fR_nameFrom 0 k) (why := 5) (by omega) (d := d') (by omega)
    rw [z, if_pos rfl, ck_ok _ (by omega), z1, rf, w1] at runM
    simp only [Option.bind_some] at runM
    have st : m_doFifteen_190 d' υ4 (f + σ fR_runFrom 0 0) (w32 (k + 1)) = some (0, υ4) := by
      rw [e_m_doFifteen_190]
      by_cases q : w32 (k + 1) < υ4 fM_listSize 0 0
      · rw [if_pos q, if_neg (by rw [w3]; decide)]
      · rw [if_neg q]
    rw [e_m_doFifteen_307, st] at runM
    refine Or.inr ⟨ρ3, υ4, r1, runM, ⟨z2, ?_, w3, ?_⟩, fr_trans fC2 (fr_sub r3 (by decide)), fr_trans fM2 (fr_sub w2 (by decide))⟩
    · rw [z3, fC2 _ (by decide)]
    · rw [w4, fM2 _ (by decide)]; exact (E.2.1.2.1 _ t0.1 (by omega)).2.2.2
end

section
variable {σ τ : ga_S} {f : Int} {N : Nat}
theorem liR_len2 (E : E0 σ τ f N) {kind to : Int} : ∀ (n : Nat) (k : Int) (L : List Int), k ≤ to → liR σ kind to n k = some L → 2 * (L.length : Int) ≤ to - k + 1 := by
  intro n
  induction n with
  | zero => intro k L _ h; cases h
  | succ n ih =>
    intro k L hk h
    unfold liR at h
    have sg := sgE_r σ hk
    by_cases c : sgO σ kind to k = true
    · rw [if_pos c] at h
      have c1 : obV σ k (sgE σ to k) ≠ -1 := by unfold sgO at c; exact of_decide_eq_true ((Bool.and_eq_true _ _).mp c).1
      have jk : k < sgE σ to k := by
        refine Classical.byContradiction fun v => ?_
        have ejk : sgE σ to k = k := by omega
        rw [ejk] at c1
        have emp : ∀ a : Int, k ≤ a → nmT σ a k = [] := by
          intro a ha
          unfold nmT wsT
          rw [rg_n ha]; rfl
        have ar : 0 ≤ artN σ k := by unfold artN; by_cases y : 9 ≤ σ fT_kinds 0 k ∧ σ fT_kinds 0 k ≤ 12 <;> simp [y]
        apply c1
        unfold obV
        by_cases y : frA σ (k + artN σ k) k = true
        · rw [if_pos y, emp _ (by omega), dN_nil E]
        · rw [if_neg y]
      by_cases c2 : sgE σ to k < to
      · rw [if_pos c2] at h
        obtain ⟨L', h', e⟩ := Option.map_eq_some_iff.mp h
        have nr := sgN_r σ c2
        have := ih (sgN σ to (sgE σ to k)) L' nr.2 h'
        rw [← e, List.length_cons]
        push_cast
        omega
      · rw [if_neg c2] at h
        injection h with h
        rw [← h]
        simp
        omega
    · rw [if_neg c] at h; cases h
def reC0 : List Nat := fW_related :: ntL
/-- while pairs are related -/
def REc (σ τ : ga_S) (g : Int) (ρ2 ρ υ : ga_S) : Prop := AW σ τ g ρ υ ∧ fr [fW_related] ρ2 ρ ∧ fr [fM_related] τ υ
theorem re_loop (E : E0 σ τ f N) {g r : Int} {L1 L2 : List Int} {ρ2 : ga_S} (hf : ρ2 fR_fault 0 0 = 0) (hb : τ fM_bestFault 0 0 = 0) (hr : 0 ≤ r ∧ r < ρ2 fW_relations 0 0) (hob : ρ2 fW_objects = σ fW_objects) (l1 : L1.length ≤ 2501) (l2 : L2.length ≤ 2501) (l12 : L1.length + L2.length ≤ 5000) (h1 : ∀ x, x ∈ L1 → 0 ≤ x ∧ x < σ fW_objects 0 0) (h2 : ∀ x, x ∈ L2 → 0 ≤ x ∧ x < σ fW_objects 0 0) (n1 : ∀ i : Nat, i < L1.length → ρ2 fR_nameFrom 0 i = L1.getD i 0) (n2 : ∀ i : Nat, i < L2.length → ρ2 fR_nameFrom 0 (L1.length + i) = L2.getD i 0) (m1 : τ fM_aheadCount 0 0 = L1.length) (m2 : τ fM_behindCount 0 0 = L2.length) (m3 : τ fM_saidRelation 0 0 = r) (m4 : ∀ i : Nat, i < L1.length → τ fM_aheadObjects 0 i = L1.getD i 0) (m5 : ∀ i : Nat, i < L2.length → τ fM_behindObjects 0 i = L2.getD i 0) {d : Nat} (hd : 2 ≤ d) : ∀ i : Int, 0 ≤ i → i ≤ L1.length → ∀ ρ υ, REc σ τ g ρ2 ρ υ → (∃ ρ' υ', r_relates_98 d ρ r L1.length L2.length i = some (1, ρ') ∧ m_doSaying_2 d υ f i = some (0, υ') ∧ REc σ τ g ρ2 ρ' υ') ∨ (∃ ρ' υ', r_relates_98 d ρ r L1.length L2.length i = some (0, ρ') ∧ m_doSaying_2 d υ f i = some (0, υ') ∧ AF ρ' υ' 5 (σ fT_places 0 0) ∧ fr (fW_related :: ntL) ρ2 ρ' ∧ fr [fM_related, fM_bestFault, fM_bestPlace] τ υ') := by
  have hN5 := E.1.2.2.1
  have fN := E.1.2.1
  have f0 := E.1.1
  have stop : ∀ υ, υ fM_bestFault 0 0 ≠ 0 → ∀ i j, m_doSaying_2 d υ f i = some (0, υ) ∧ m_doSaying_19 d υ f i j = some (0, υ) := by
    intro υ hb' i j
    have s2 : ∀ i, m_doSaying_2 d υ f i = some (0, υ) := by
      intro i
      rw [e_m_doSaying_2]
      by_cases c : i < υ fM_aheadCount 0 0
      · rw [if_pos c, if_neg hb']
      · rw [if_neg c]
    refine ⟨s2 i, ?_⟩
    rw [e_m_doSaying_19]
    by_cases c : j < υ fM_behindCount 0 0
    · rw [if_pos c, if_neg hb', e_m_doSaying_69, s2]
    · rw [if_neg c, e_m_doSaying_69, s2]
  refine rg_ind (n := L1.length) ?_ ?_
  · intro i h h0 h1' ρ υ H
    refine Or.inl ⟨ρ, υ, ?_, ?_, H⟩
    · rw [e_r_relates_98, if_neg (by omega)]
    · rw [e_m_doSaying_2, H.2.2 fM_aheadCount (by decide), m1, if_neg (by omega)]
  · intro i h ih h0 h1' ρ υ H
    obtain ⟨x, ex⟩ : ∃ x, x = L1.getD i.toNat 0 := ⟨_, rfl⟩
    have xr : 0 ≤ x ∧ x < σ fW_objects 0 0 := by
      refine h1 x ?_
      rw [ex, List.getD_eq_getElem?_getD, List.getElem?_eq_getElem (by omega)]
      exact List.getElem_mem _
    have ax : ρ2 fR_nameFrom 0 i = x := by rw [ex, ← n1 i.toNat (by omega), Int.toNat_of_nonneg h0]
    have bx : τ fM_aheadObjects 0 i = x := by rw [ex, ← m4 i.toNat (by omega), Int.toNat_of_nonneg h0]
    have inner : ∀ j : Int, 0 ≤ j → j ≤ L2.length → ∀ ρ υ, REc σ τ g ρ2 ρ υ → (∃ ρ' υ', r_relates_107 d ρ r L1.length L2.length i j = r_relates_98 d ρ' r L1.length L2.length (i + 1) ∧ m_doSaying_19 d υ f i j = m_doSaying_2 d υ' f (i + 1) ∧ REc σ τ g ρ2 ρ' υ') ∨ (∃ ρ' υ', r_relates_107 d ρ r L1.length L2.length i j = some (0, ρ') ∧ m_doSaying_19 d υ f i j = some (0, υ') ∧ AF ρ' υ' 5 (σ fT_places 0 0) ∧ fr (fW_related :: ntL) ρ2 ρ' ∧ fr [fM_related, fM_bestFault, fM_bestPlace] τ υ') := by
      refine rg_ind (n := L2.length) ?_ ?_
      · intro j g1 g0 g2 ρ υ H
        refine Or.inl ⟨ρ, υ, ?_, ?_, H⟩
        · rw [e_r_relates_107, if_neg (by omega), w32_ok (x := i + 1) (by omega)]
        · rw [e_m_doSaying_19, H.2.2 fM_behindCount (by decide), m2, if_neg (by omega), e_m_doSaying_69, w32_ok (x := i + 1) (by omega)]
      · intro j g1 ihj g0 g2 ρ υ H
        obtain ⟨A, R1, R2⟩ := H
        obtain ⟨y, ey⟩ : ∃ y, y = L2.getD j.toNat 0 := ⟨_, rfl⟩
        have yr : 0 ≤ y ∧ y < σ fW_objects 0 0 := by
          refine h2 y ?_
          rw [ey, List.getD_eq_getElem?_getD, List.getElem?_eq_getElem (by omega)]
          exact List.getElem_mem _
        have ay : ρ2 fR_nameFrom 0 (L1.length + j) = y := by
          have := n2 j.toNat (by omega)
          rw [Int.toNat_of_nonneg g0] at this
          rw [ey]; exact this
        have by' : τ fM_behindObjects 0 j = y := by rw [ey, ← m5 j.toNat (by omega), Int.toNat_of_nonneg g0]
        have o24 := E.2.2.2.2.1.2.1
        have ro : ρ fW_objects 0 0 = σ fW_objects 0 0 := by rw [R1 _ (by decide), hob]
        have uo : υ fM_objects 0 0 = σ fW_objects 0 0 := by rw [A.2.2.1.2.1.2.2.1]; exact ro
        have rr0 : 0 ≤ r ∧ r < ρ fW_relations 0 0 := by rw [R1 _ (by decide)]; exact hr
        have r6 := A.2.2.1.2.2.2.2.2.2.1.2.1
        have we := A.2.2.2.1.2.2.2.2.1 r rr0.1 rr0.2
        have kc := k_rel137 (ρ := ρ) (r := r) (n1 := L1.length) (n2 := L2.length) (i := i) (j := j) (x := x) (y := y) ro o24 (by omega) (by omega) (by omega) (by omega) d 0 (Int.le_refl _)
        obtain ⟨e, ed⟩ : ∃ e, d = e + 1 := ⟨d - 1, by omega⟩
        have mc := m_relate_l (υ := υ) (r := r) (x := x) (y := y) (R := ρ fW_related r) uo o24 (by omega) (by omega) (by omega) we.2.2.1 we.2.2.2.1 (fun q q0 q1 => (we.2.2.2.2 q q0 q1).2) e 0 (Int.le_refl _)
        have mc' : c_m_relate d υ r x y = (if (rg 0 (σ fW_objects 0 0)).any (rcB (ρ fW_related r) (ρ fW_oneA 0 r) (ρ fW_oneB 0 r) x y) = true then some (0, υ) else some (1, ga_up υ fM_related 0 (576 * r + (24 * x + y)) 1)) := by
          rw [ed, e_m_relate, mc]
        have hb' : υ fM_bestFault 0 0 = 0 := by rw [R2 _ (by decide)]; exact hb
        have hf' : ρ fR_fault 0 0 = 0 := by rw [R1 _ (by decide)]; exact hf
        have runC : r_relates_107 d ρ r L1.length L2.length i j = r_relates_137 d ρ r L1.length L2.length i j x y 0 := by
          rw [e_r_relates_107, if_pos g1, w32_ok (x := (L1.length : Int) + j) (by omega), ck_ok _ (by omega), ck_ok _ (by omega), R1 fR_nameFrom (by decide), ax, ay]
        have runM : m_doSaying_19 d υ f i j = (c_m_relate d υ r x y).bind fun q1 => if q1.1 = 0 then (c_m_wrong d q1.2 5 f).bind fun q2 => m_doSaying_63 d q2.2 f i j else m_doSaying_63 d q1.2 f i j := by
          rw [e_m_doSaying_19, R2 fM_behindCount (by decide), m2, if_pos g1, if_pos hb', ck_ok _ (by omega), ck_ok _ (by omega), R2 fM_saidRelation (by decide), m3, R2 fM_aheadObjects (by decide), bx, R2 fM_behindObjects (by decide), by']
        rw [kc] at runC
        rw [mc'] at runM
        cases q : (rg 0 (σ fW_objects 0 0)).any (rcB (ρ fW_related r) (ρ fW_oneA 0 r) (ρ fW_oneB 0 r) x y) with
        | true =>
          rw [q, if_pos rfl] at runC runM
          obtain ⟨ρ', o1, o2, o3, o4⟩ := k_otherwise hf' (t := 0) (by omega) (d := d) (by omega)
          obtain ⟨υ', w1, w2, w3, w4⟩ := m_wrongA hb' (t := f) (why := 5) (by omega) (d := d) (by omega)
          rw [o1] at runC
          simp only [Option.bind_some] at runC
          rw [z1_ok _ (Or.inl rfl)] at runC
          simp only [Option.bind_some] at runM
          rw [if_pos trivial, w1] at runM
          simp only [Option.bind_some] at runM
          rw [e_m_doSaying_63, (stop υ' (by rw [w3]; decide) i _).2] at runM
          refine Or.inr ⟨ρ', υ', runC, runM, ⟨o3, ?_, w3, ?_⟩, fr_trans (fr_sub R1 (by decide)) (fr_sub o2 (by decide)), fr_trans (fr_sub R2 (by decide)) (fr_sub w2 (by decide))⟩
          · rw [o4, A.1.1 fT_places (by decide)]
          · rw [w4, A.2.1 _ (by decide)]
            have := (E.2.1.2.1 0 (Int.le_refl _) (by omega)).2.2.2
            rw [show f + 0 = f by omega] at this; exact this
        | false =>
          rw [q, if_neg (by decide)] at runC runM
          simp only [Option.bind_some] at runM
          rw [if_neg (by decide), e_m_doSaying_63, w32_ok (x := j + 1) (by omega)] at runM
          obtain ⟨ρ1, e1⟩ : ∃ z, z = ga_up ρ fW_related r (24 * x + y) 1 := ⟨_, rfl⟩
          obtain ⟨υ1, e2⟩ : ∃ z, z = ga_up υ fM_related 0 (576 * r + (24 * x + y)) 1 := ⟨_, rfl⟩
          rw [← e1] at runC
          rw [← e2] at runM
          have f1 : fr [fW_related] ρ ρ1 := by rw [e1]; exact fr_u (by decide)
          have f2 : fr [fM_related] υ υ1 := by rw [e2]; exact fr_u (by decide)
          have H1 : REc σ τ g ρ2 ρ1 υ1 := ⟨AW_re A f1 f2 (RWe_set A.2.2.2.1.2.2.2.2 rr0 (by omega) e1 e2), fr_trans R1 f1, fr_trans R2 f2⟩
          rcases ihj (by omega) (by omega) ρ1 υ1 H1 with ⟨ρ', υ', t1, t2, t3⟩ | ⟨ρ', υ', t1, t2, t3⟩
          · exact Or.inl ⟨ρ', υ', runC.trans t1, runM.trans t2, t3⟩
          · exact Or.inr ⟨ρ', υ', runC.trans t1, runM.trans t2, t3⟩
    have hb' : υ fM_bestFault 0 0 = 0 := by rw [H.2.2 _ (by decide)]; exact hb
    have runC : r_relates_98 d ρ r L1.length L2.length i = r_relates_107 d ρ r L1.length L2.length i 0 := by
      rw [e_r_relates_98, if_pos h]
    have runM : m_doSaying_2 d υ f i = m_doSaying_19 d υ f i 0 := by
      rw [e_m_doSaying_2, H.2.2 fM_aheadCount (by decide), m1, if_pos h, if_pos hb']
    rcases inner 0 (Int.le_refl _) (by omega) ρ υ H with ⟨ρ', υ', s1, s2, s3⟩ | ⟨ρ', υ', s1, s2, s3⟩
    · rcases ih (by omega) (by omega) ρ' υ' s3 with ⟨ρ3, υ3, t1, t2, t3⟩ | ⟨ρ3, υ3, t1, t2, t3⟩
      · exact Or.inl ⟨ρ3, υ3, runC.trans (s1.trans t1), runM.trans (s2.trans t2), t3⟩
      · exact Or.inr ⟨ρ3, υ3, runC.trans (s1.trans t1), runM.trans (s2.trans t2), t3⟩
    · exact Or.inr ⟨ρ', υ', runC.trans s1, runM.trans s2, s3⟩
def a20C : List Nat := fW_related :: lsF
theorem act_20 (E : E0 σ τ f N) {g : Int} (D : DW σ τ g) (R5 : RW5 σ τ) (kb : kb0 σ τ) (hf : σ fR_fault 0 0 = 0) (hb : τ fM_bestFault 0 0 = 0) (hs : σ fR_sort 0 0 = 20) (ht : τ fM_sort 0 0 = 20) (hct : σ fT_count 0 0 = N + 1) {m : Int} (hm : saL σ N 1 = [m]) (hv : σ fR_verbAt 0 0 = m) (hk : saK σ N τ m) {d : Nat} (hd : 6 ≤ d) : ∃ b σ' τ', c_r_act (d + 2) σ = some (b, σ') ∧ c_m_does1 (d + 2) τ f = some (0, τ') ∧ ((b = 1 ∧ fr a20C σ σ' ∧ fr [fM_related] τ τ' ∧ σ' fR_fault 0 0 = 0 ∧ τ' fM_bestFault 0 0 = 0 ∧ AW σ τ g σ' τ') ∨ (b = 0 ∧ AF σ' τ' 5 (σ fT_places 0 0) ∧ fr (ntL ++ a20C) σ σ' ∧ fr [fM_related, fM_bestFault, fM_bestPlace] τ τ')) := by
  have ET : ENV σ τ f N ∧ TOK σ τ f N := ⟨E.1, E.2.1⟩
  have A0 : AW σ τ g σ τ := ⟨tkS_r σ, tkT_r τ, E.2.2.2, R5, D, kb, NW_e rfl rfl⟩
  have hN5 := E.1.2.2.1
  have fN := E.1.2.1
  have f0 := E.1.1
  have mm : m ∈ (rg 1 N).filter (saG σ N) := by
    have : m ∈ saL σ N 1 := by rw [hm]; exact List.mem_singleton.mpr rfl
    exact this
  obtain ⟨mr, mg⟩ := List.mem_filter.mp mm
  have mr' := (rg_mem 1).mp mr
  unfold saG at mg
  have g1 := (Bool.and_eq_true _ _).mp mg
  have g2 := (Bool.and_eq_true _ _).mp g1.1
  have g3 := (Bool.and_eq_true _ _).mp g2.1
  have mb := of_decide_eq_true g3.1
  have vne := of_decide_eq_true g3.2
  obtain ⟨L1, L2, k1, k2, k3, k4, k5, k6, k7⟩ := hk
  obtain ⟨v, ev⟩ : ∃ x, x = saV0 σ m := ⟨_, rfl⟩
  have vr := (saV0_r E m).resolve_left vne
  rw [← ev] at vr vne
  have wb := E.2.2.2.2.2.2.2.2.2.2.1
  have vb := wb.2.2.2 v vr.1 vr.2
  have v8 := wb.2.1
  obtain ⟨r, er⟩ : ∃ x, x = saR0 σ m := ⟨_, rfl⟩
  have er' : r = σ fW_verbRelations 0 v := by rw [er, ev]; rfl
  have r6 := E.2.2.2.2.2.2.2.2.2.1.2.1
  have kz : σ fT_kinds 0 m = 0 := by
    refine Classical.byContradiction fun z => ?_
    rw [ev] at vne
    unfold saV0 at vne
    rw [if_neg z] at vne
    exact vne rfl
  have frm : frB σ N m (m + 1) := ⟨by omega, by omega, by omega, fun q q0 q1 => by rw [show q = m by omega]; exact kz⟩
  obtain ⟨d0, ed0⟩ : ∃ e, d = e + 1 := ⟨d - 1, by omega⟩
  obtain ⟨n, s1, s2⟩ := k_several_l (KC_r σ) (to := m) (by omega) (d := d0) (by omega) 0 (Int.le_refl _) (by omega) 0 (Int.le_refl _) (Int.le_refl _)
  have sev : c_r_several d σ 0 m = some (n, σ) := by rw [ed0, e_r_several, s1]
  have sevb : (0 < n) ↔ sevB σ m = true := by
    rw [s2]
    constructor
    · intro z
      rcases z with z | z
      · omega
      · exact z
    · intro z; exact Or.inr z
  obtain ⟨ρ1, a1, a2⟩ := k_meanA ET (tkS_r σ) E.2.2.1 frm (d := d) (by omega) (if sevB σ m = true then 7 else 12)
  have ve : dN σ (nmT σ m (m + 1)) (if sevB σ m = true then 7 else 12) = v := by rw [ev]; unfold saV0; rw [if_pos kz]
  rw [ve] at a1
  have K1 : KC σ ρ1 := KC_f (KC_r σ) a2 (by decide)
  -- the lists
  have kA : liR σ (σ fW_relationA 0 r) m (m.toNat + 1) 0 = some L1 := by rw [er]; exact k1
  have kB : liR σ (σ fW_relationB 0 r) N ((N : Int) - m).toNat (m + 1) = some L2 := by rw [er]; exact k2
  have len1 := liR_len2 E _ _ L1 (by omega) kA
  have len2 := liR_len2 E _ _ L2 (by omega) kB
  obtain ⟨ρ2, b1, b2, b3, _, b5⟩ := k_listed_l E (to := m) (kind := σ fW_relationA 0 r) (at' := 0) (k0 := 0) (by omega) (Int.le_refl _) (Int.le_refl _) (by omega) (d := d0) (by omega) (m.toNat + 1) 0 (Int.le_refl _) (by omega) (by omega) ρ1 0 K1 (Int.le_refl _) (by omega)
  obtain ⟨b6, b7⟩ := b5 L1 kA
  obtain ⟨ρ3, c1, c2, c3, _, c5⟩ := k_listed_l E (to := N) (kind := σ fW_relationB 0 r) (at' := L1.length) (k0 := m + 1) (Int.le_refl _) (by omega) (by omega) (by omega) (d := d0) (by omega) ((N : Int) - m).toNat (m + 1) (Int.le_refl _) (by omega) (by omega) ρ2 0 b1 (Int.le_refl _) (by omega)
  obtain ⟨c6, c7⟩ := c5 L2 kB
  have lis1 : c_r_listed d ρ1 0 m (σ fW_relationA 0 r) 0 = some ((L1.length : Int), ρ2) := by
    rw [ed0, e_r_listed, b6, show (0 : Int) + (L1.length : Int) = L1.length by omega]
  have lis2 : c_r_listed d ρ2 (m + 1) N (σ fW_relationB 0 r) L1.length = some ((L2.length : Int), ρ3) := by
    rw [ed0, e_r_listed, c6, show (0 : Int) + (L2.length : Int) = L2.length by omega]
  have f13 : fr lsF σ ρ3 := fr_trans (fr_sub a2 (by decide)) (fr_trans b2 c2)
  have A3 : AW σ τ g ρ3 τ := AW_f A0 f13 (by decide) (fr_refl [] τ) (by decide)
  have run0 : c_r_act (d + 2) σ = ((r_relates_98 d ρ3 r L1.length L2.length 0).bind fun q1 => ga_01 q1.1 (some (q1.1, q1.2))) := by
    have r47 : ∀ s, s = (if sevB σ m = true then 7 else 12) → r_relates_47 d σ N s (m + 1) m = r_relates_98 d ρ3 r L1.length L2.length 0 := by
      intro s hs'
      rw [e_r_relates_47, hs', a1]
      simp only [Option.bind_some]
      rw [ck_ok _ (by omega), a2 fW_verbRelations (by decide), ← er', ck_ok _ (by omega), a2 fR_verbAt (by decide), hv, a2 fW_relationA (by decide), lis1]
      simp only [Option.bind_some]
      rw [ck_ok _ (by omega), b2 fR_verbAt (by decide), a2 fR_verbAt (by decide), hv, w32_ok (x := m + 1) (by omega), b2 fW_relationB (by decide), a2 fW_relationB (by decide), lis2]
      simp only [Option.bind_some]
    have rel : c_r_relates (d + 1) σ = r_relates_98 d ρ3 r L1.length L2.length 0 := by
      rw [e_r_relates, hv, sev]
      simp only [Option.bind_some]
      rw [hct, w32_ok (x := (N : Int) + 1 - 1) (by omega), show (N : Int) + 1 - 1 = N by omega, w32_ok (x := m + 1) (by omega)]
      by_cases z : 0 < n
      · rw [if_pos z]; exact r47 7 (by rw [if_pos (sevb.mp z)])
      · rw [if_neg z]; exact r47 12 (by rw [if_neg (fun y => z (sevb.mpr y))])
    rw [e_r_act, hs]
    iterate 20 rw [if_neg (by decide)]
    rw [rel]
  have runM : c_m_does1 (d + 2) τ f = ((m_doSaying_2 d τ f 0).bind fun q1 => some (0, q1.2)) := by
    rw [e_m_does1, ht]
    iterate 20 rw [if_neg (by decide)]
    rw [if_pos rfl, e_m_doSaying]
  have n1 : ∀ i : Nat, i < L1.length → ρ3 fR_nameFrom 0 i = L1.getD i 0 := by
    intro i hi
    rw [c3 i (by omega)]
    have := b7 i hi
    rw [show (0 : Int) + 0 + (i : Int) = i by omega] at this; exact this
  have n2 : ∀ i : Nat, i < L2.length → ρ3 fR_nameFrom 0 (L1.length + i) = L2.getD i 0 := by
    intro i hi
    have := c7 i hi
    rw [show (L1.length : Int) + 0 + (i : Int) = L1.length + i by omega] at this; exact this
  rcases re_loop E (g := g) (r := r) (L1 := L1) (L2 := L2) (ρ2 := ρ3) (by rw [f13 _ (by decide)]; exact hf) hb (by rw [f13 _ (by decide), er']; exact ⟨vb.1, vb.2.1⟩) (f13 _ (by decide)) (by omega) (by omega) (by omega) (liR_r E _ _ L1 kA) (liR_r E _ _ L2 kB) n1 n2 k3 k4 (by rw [k5, er]) k6 k7 (d := d) (by omega) 0 (Int.le_refl _) (by omega) ρ3 τ ⟨A3, fr_refl _ _, fr_refl _ _⟩ with ⟨ρ', υ', t1, t2, t3⟩ | ⟨ρ', υ', t1, t2, t3⟩
  · rw [t1] at run0
    simp only [Option.bind_some] at run0
    rw [z1_ok _ (Or.inr rfl)] at run0
    rw [t2] at runM
    exact ⟨1, ρ', υ', run0, runM, Or.inl ⟨rfl, fr_trans (fr_sub f13 (by decide)) (fr_sub t3.2.1 (by decide)), t3.2.2, by rw [t3.2.1 _ (by decide), f13 _ (by decide)]; exact hf, by rw [t3.2.2 _ (by decide)]; exact hb, t3.1⟩⟩
  · rw [t1] at run0
    simp only [Option.bind_some] at run0
    rw [z1_ok _ (Or.inl rfl)] at run0
    rw [t2] at runM
    exact ⟨0, ρ', υ', run0, runM, Or.inr ⟨rfl, t3.1, fr_trans (fr_sub f13 (by decide)) (fr_sub t3.2.1 (by decide)), t3.2.2⟩⟩
end

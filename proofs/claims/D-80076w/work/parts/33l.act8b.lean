section
variable {σ τ : ga_S} {f : Int} {N : Nat}
theorem m_typeOrPluralA {τ' : ga_S} (E : E0 σ τ f N) (T : tkT τ τ') (R : RD σ τ') {r a b : Int} (hr : RU σ τ f N r a b) {d : Nat} (hd : 5 ≤ d) : c_m_typeOrPlural d τ' r = some (tyN σ (nmT σ a b), τ') := by
  obtain ⟨d, rfl⟩ : ∃ e, d = e + 1 := ⟨d - 1, by omega⟩
  have M := mN_k E (nmT σ a b)
  have mm := fun ms => m_meansA ⟨E.1, E.2.1⟩ T R hr (d := d) (by omega) ms
  rw [e_m_typeOrPlural, mm, M.2.2.1]
  simp only [Option.bind_some]
  unfold tyN
  by_cases q : dN σ (nmT σ a b) 1 = -1
  · rw [if_pos q, if_pos q, mm, M.2.2.2]
    rfl
  · rw [if_neg q, if_neg q]
def a8C : List Nat := dicL ++ spL
def a8M : List Nat := lexL
theorem act_8 (E : E0 σ τ f N) {g : Int} (D : DW σ τ g) (hg : g + 1 ≤ 380) (R5 : RW5 σ τ) (hs : σ fR_sort 0 0 = 8) (ht : τ fM_sort 0 0 = 8) (R0 : RU σ τ f N 0 (σ fR_runFrom 0 0) (σ fR_runTo 0 0)) (R1 : RU σ τ f N 1 (σ fR_runFrom 0 1) (σ fR_runTo 0 1)) (l1 : σ fR_runFrom 0 1 < σ fR_runTo 0 1) (hk : σ fR_kind0 0 0 = kdN σ (nR σ 0)) (ho : σ fR_object0 0 0 = tyN σ (nR σ 0)) (hx : ¬ (kdN σ (nR σ 0) = -1 ∧ tyN σ (nR σ 0) = -1)) (w0 : nB σ (wC σ 1) [] = true) {d : Nat} (hd : 5 ≤ d) (first : Int) : ∃ σ' τ' g', c_r_act (d + 2) σ = some (1, σ') ∧ c_m_does1 (d + 2) τ first = some (0, τ') ∧ fr a8C σ σ' ∧ fr a8M τ τ' ∧ WK σ' τ' ∧ RW5 σ' τ' ∧ DW σ' τ' g' ∧ g ≤ g' ∧ g' ≤ g + 1 ∧ tkS σ σ' := by
  have E' := E
  obtain ⟨E1, E2, E3, E4⟩ := E
  have ET : ENV σ τ f N ∧ TOK σ τ f N := ⟨E1, E2⟩
  obtain ⟨Wk, Wo, Wa, Wt, Wv, Wp, Wr, Wb, Wc, Wd, Wl⟩ := E4
  have rm := DW_room D
  obtain ⟨A, eA⟩ : ∃ x, x = kdN σ (nR σ 0) := ⟨_, rfl⟩
  obtain ⟨B, eB⟩ : ∃ x, x = tyN σ (nR σ 0) := ⟨_, rfl⟩
  have kA := kdN_r E' (nR σ 0)
  have kB := tyN_r E' (nR σ 0)
  rw [← eA] at kA hk hx
  rw [← eB] at kB ho hx
  have k16 := Wk.1.1
  have t8 := Wt.2.1
  obtain ⟨n, en⟩ : ∃ x, x = (if A = -1 then 100 + B else A) := ⟨_, rfl⟩
  obtain ⟨ms, em⟩ : ∃ x : Int, x = (if A = -1 then 3 else 1) := ⟨_, rfl⟩
  obtain ⟨mi, ei⟩ : ∃ x : Int, x = (if A = -1 then B else A) := ⟨_, rfl⟩
  have ems : ms = sM 11 n := by
    show ms = if n < 100 then 1 else 3
    by_cases c : A = -1
    · rw [if_pos c] at en em; rw [if_neg (by omega)]; exact em
    · rw [if_neg c] at en em; rw [if_pos (by omega)]; exact em
  have emi : mi = iM 11 n := by
    unfold iM
    by_cases c : A = -1
    · rw [if_pos c] at en ei; rw [if_pos (by omega)]; omega
    · rw [if_neg c] at en ei; rw [if_neg (by omega)]; omega
  have hn : (0 ≤ n ∧ n < 200) ∧ (n < σ fW_kinds 0 0 ∨ (100 ≤ n ∧ n < 100 + σ fW_types 0 0)) := by
    by_cases c : A = -1
    · rw [if_pos c] at en; omega
    · rw [if_neg c] at en; omega
  have nb := nB_1 w0
  have len1 : σ fR_runTo 0 1 - σ fR_runFrom 0 1 ≤ 3 := by have := wsT_len (σ := σ) R1.2.2.2.2.1; have := nb.1; unfold wC at this; omega
  have P11 := p11 D.2.2.2.2.1 Wd
  -- the two searches
  obtain ⟨l, lx1, lx2⟩ := m_lexOf (τ := τ) E3.2.2.1 ms mi (d := d) (by omega)
  have ent0 := s_d_entry (σ := σ) (d := d) (by omega) E3.1.2.1 11 n
  have hM0 : ∀ τ', m_doPlural_62 d τ ms mi l (τ fM_lexes 0 0) (if l = -1 then τ fM_lexes 0 0 else l) = some (0, τ') → c_m_does1 (d + 2) τ first = some (0, τ') := by
    intro τ' h
    have k1 := m_kindOrPluralA E' (tkT_r τ) E3 R0 (d := d) (by omega)
    have k1' : c_m_kindOrPlural d τ 0 = some (A, τ) := by rw [k1, eA]; rfl
    have k2 := m_typeOrPluralA E' (tkT_r τ) E3 R0 (d := d) (by omega)
    have k2' : c_m_typeOrPlural d τ 0 = some (B, τ) := by rw [k2, eB]; rfl
    have m31 : m_doPlural_31 d τ ms mi = some (0, τ') := by
      rw [e_m_doPlural_31, lx1]
      simp only [Option.bind_some]
      by_cases c : l = -1
      · rw [if_pos c] at h; rw [if_pos c]; exact h
      · rw [if_neg c] at h; rw [if_neg c]; exact h
    have dp : c_m_doPlural (d + 1) τ = some (0, τ') := by
      rw [e_m_doPlural, k1']
      simp only [Option.bind_some]
      by_cases c : A = -1
      · rw [if_pos c] at em ei
        rw [if_pos c, e_m_doPlural_16, if_pos c, k2']
        simp only [Option.bind_some]
        rw [← em, ← ei]; exact m31
      · rw [if_neg c] at em ei
        rw [if_neg c, e_m_doPlural_16, if_neg c, ← em, ← ei]; exact m31
    rw [e_m_does1, ht]
    iterate 8 rw [if_neg (by decide)]
    rw [if_pos rfl, dp]
    rfl
  have hC0 : c_r_act (d + 2) σ = r_act_350 (d + 1) σ n := by
    rw [e_r_act, hs]
    iterate 8 rw [if_neg (by decide)]
    rw [if_pos rfl, hk, ho]
    by_cases c : A = -1
    · rw [if_pos c] at en; rw [if_pos c, w32_ok (by omega), ← en]
    · rw [if_neg c] at en; rw [if_neg c, ← en]
  have fin : ∀ σ' τ' g', fr a8C σ σ' → fr a8M τ τ' → DW σ' τ' g' → WK σ' τ' ∧ RW5 σ' τ' := by
    intro σ' τ' g' fC fM D'
    exact ⟨⟨WKk_f Wk (fr_mem fC (by decide)) (fr_mem fM (by decide)), WKo_f Wo (fr_mem fC (by decide)) (fr_mem fM (by decide)), WKa_f Wa (fr_mem fC (by decide)) (fr_mem fM (by decide)), WKt_f Wt (fr_mem fC (by decide)) (fr_mem fM (by decide)), WKv_f Wv (fr_mem fC (by decide)) (fr_mem fM (by decide)), WKp_f Wp (fr_mem fC (by decide)) (fr_mem fM (by decide)), WKr_f Wr (fr_mem fC (by decide)) (fr_mem fM (by decide)), WKb_f Wb (fr_mem fC (by decide)) (fr_mem fM (by decide)), WKc_f Wc (fr_mem fC (by decide)) (fr_mem fM (by decide)), D'.2.1, D'.2.2.1⟩, RW5_f R5 fC (by decide) (by rw [fC fT_size (by decide), fC fT_bytes (by decide)]; exact ⟨rfl, rfl⟩) fM (by decide)⟩
  rcases lx2 with ⟨c, none⟩ | ⟨c0, c1, c2, c3⟩
  · -- no plural as yet
    have nn : ∀ k, live σ k → σ fD_sorts 0 k = 11 → σ fD_numbers 0 k ≠ n := by
      intro k lk e e'
      obtain ⟨k', h0, hk', V, _, _, _, _, _, _, v7, v8⟩ := E3.2.2.2.2.1 k lk
      exact none k' h0 hk' ⟨by rw [v7, e, e', ← ems], by rw [v8, e, e', ← emi]⟩
    have en0 : enI σ 11 n 0 = -1 := by
      rcases enI_r (σ := σ) (s := 11) (n := n) with z | z
      · exact z
      · exact absurd z.2.2.2 (nn _ ⟨z.1, z.2.1, by rw [z.2.2.1]; decide⟩ z.2.2.1)
    have mx11 : mxN σ 11 = 200 := rfl
    obtain ⟨σ', τ', d1, d2, d3, d4, d5, d6, d7⟩ := tell_J ET (tkS_r σ) (tkT_r τ) D (s := 11) (n := n) R1 l1 len1 nb.2.1 (by omega) hn.1 (by omega) (fun _ => hn.2) nn (d := d + 1) (d' := d) (by omega) (by omega)
    rw [← ems, ← emi] at d2
    have w := fin σ' τ' g (fr_sub d3.1 (by decide)) (fr_sub d4.1 (by decide)) d5
    refine ⟨σ', τ', g, ?_, ?_, fr_sub d3.1 (by decide), fr_sub d4.1 (by decide), w.1, w.2, d5, Int.le_refl _, by omega, d6⟩
    · have fg : c_d_forget (d + 1) σ 11 n = some (0, σ) := by
        rw [e_d_forget, ent0, en0]
        simp only [Option.bind_some]
        rw [if_pos trivial]
      rw [hC0, e_r_act_350, fg]
      simp only [Option.bind_some]
      rw [d1]
      rfl
    · refine hM0 τ' ?_
      rw [if_pos c, e_m_doPlural_62, up_self, d2]
      simp only [Option.bind_some]
      rw [if_pos c, e_m_doPlural_88, up_self]
  · -- the old plural makes room
    obtain ⟨k0, lk, el⟩ := E3.2.2.2.1 l c0 c1
    have el' := el
    obtain ⟨V, _, _, _, _, _, _, v7, v8⟩ := el'
    have b := E3.2.2.2.2.2.2.2 k0 lk
    have i := sM_inj (s := σ fD_sorts 0 k0) (n := σ fD_numbers 0 k0) (s2 := 11) (n2 := n) ⟨b.1, b.2.1, b.2.2.1⟩ (by omega) (P11 k0 lk) (fun _ => by omega) (by rw [← v7, c2, ems]) (by rw [← v8, c3, emi])
    have ek : enI σ 11 n 0 = k0 := by
      rcases enI_r (σ := σ) (s := 11) (n := n) with z | z
      · exact absurd ⟨i.1, i.2⟩ (enI_n z k0 lk.1 lk.2.1)
      · exact E3.2.2.2.2.2.2.1 _ _ ⟨z.1, z.2.1, by rw [z.2.2.1]; decide⟩ lk (by rw [z.2.2.1, i.1]) (by rw [z.2.2.2, i.2])
    obtain ⟨σ1, e1⟩ : ∃ x, x = ga_up σ fD_sorts 0 k0 (-1) := ⟨_, rfl⟩
    have f1 : fr [fD_sorts] σ σ1 := by rw [e1]; exact fr_u (by decide)
    have k640 := E3.1.2.1
    have wf1 : wfD σ1 := by
      have r1 := E3.1
      unfold wfD at r1 ⊢
      rw [f1 fD_count (by decide), f1 fD_used (by decide), f1 fD_froms (by decide), f1 fD_sizes (by decide)]
      exact r1
    have S1 : tkS σ σ1 := by
      refine ⟨fun F hF => by rw [f1 F (by revert hF; revert F; decide)], by rw [f1 _ (by decide)], by rw [f1 _ (by decide)], fun k lk' e => ?_, GC_f (GC_r σ) f1 (by decide)⟩
      have kn : k ≠ k0 := fun z => e (by rw [z]; exact i.1)
      have e' : σ1 fD_sorts 0 k = σ fD_sorts 0 k := by rw [e1, up_i kn]
      refine ⟨⟨lk'.1, by rw [f1 _ (by decide)]; exact lk'.2.1, by rw [e']; exact lk'.2.2⟩, ?_, e', by rw [f1 _ (by decide)]⟩
      unfold ent
      rw [f1 fD_sizes (by decide), f1 fD_letters (by decide), f1 fD_froms (by decide)]
    obtain ⟨σ', d1, d3, _⟩ := k_tellA ET S1 wf1 (by rw [f1 _ (by decide)]; exact rm.2.2.1) (by rw [f1 _ (by decide)]; exact rm.2.2.2) R1.2.2.2 len1 (d := d + 1) (by omega) 11 n
    obtain ⟨τ1, e2⟩ : ∃ x, x = ga_up τ fM_lexes 0 0 l := ⟨_, rfl⟩
    have f2 : fr [fM_lexes] τ τ1 := by rw [e2]; exact fr_u (by decide)
    have lx : τ1 fM_lexes 0 0 = l := by rw [e2, up_eq]
    have l300 := E3.2.2.1
    obtain ⟨τ2, d2, d4⟩ := m_tellA ET (tkT_f (tkT_r τ) f2 (by decide)) (by omega) R1 l1 len1 (d := d) (by omega) (sM 11 n) (iM 11 n)
    have hW := wsT_W E2 R1.2.2.2
    have ll := wsT_len (σ := σ) R1.2.2.2.2.1
    have hL : (nmT σ (σ fR_runFrom 0 1) (σ fR_runTo 0 1)).length ≤ 40 := by
      have := jn_len (wsT σ 0 (σ fR_runFrom 0 1) (σ fR_runTo 0 1)) (fun w hw => (hW w hw).2.2)
      show (jn (wsT σ 0 (σ fR_runFrom 0 1) (σ fR_runTo 0 1))).length ≤ 40
      omega
    have d4' := d4
    rw [e2] at d4'
    have DD : DW σ' (ga_up τ2 fM_lexes 0 0 (τ fM_lexes 0 0)) (g + 1) := DW_over D hg lk i.1 i.2 ⟨c0, c1⟩ el e1 d3 d4' rfl hW (by omega) (by omega) rfl hL nb.2.1
    have fC : fr a8C σ σ' := fr_trans (fr_sub f1 (by decide)) (fr_sub d3.1 (by decide))
    have fM : fr a8M τ (ga_up τ2 fM_lexes 0 0 (τ fM_lexes 0 0)) := fr_trans (fr_sub f2 (by decide)) (fr_trans (fr_sub d4.1 (by decide)) (fr_u (by decide)))
    have w := fin _ _ _ fC fM DD
    refine ⟨σ', _, g + 1, ?_, hM0 _ ?_, fC, fM, w.1, w.2, DD, by omega, Int.le_refl _, tkS_d S1 d3⟩
    · have fg : c_d_forget (d + 1) σ 11 n = some (0, σ1) := by
        rw [e_d_forget, ent0, ek]
        simp only [Option.bind_some]
        have := lk.1
        have := lk.2.1
        rw [if_neg (by omega), ck_ok _ (by omega), ← e1]
      rw [hC0, e_r_act_350, fg]
      simp only [Option.bind_some]
      rw [f1 fR_runFrom (by decide), f1 fR_runTo (by decide), d1]
      rfl
    · rw [← ems, ← emi] at d2
      rw [if_neg (by omega), e_m_doPlural_62, ← e2, d2]
      simp only [Option.bind_some]
      rw [if_neg (by omega), e_m_doPlural_88]
end

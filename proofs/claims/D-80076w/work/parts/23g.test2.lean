/-! a saying, on both sides -/
theorem sF_cd {k : Int} (hk : 0 ≤ k ∧ k < 64) : sF k = true ↔ (cdM k = 3 ∨ (100 ≤ cdM k ∧ cdM k ≤ 103) ∨ cdM k = 154 ∨ cdM k = 153) := by
  have i3 : cdM k = 3 ↔ k = 0 := cdM_inj (b := 0) hk (by omega)
  have ia := cdM_art hk
  have i4 : cdM k = 154 ↔ k = 63 := cdM_inj (b := 63) hk (by omega)
  have i5 : cdM k = 153 ↔ k = 62 := cdM_inj (b := 62) hk (by omega)
  rw [i3, ia, i4, i5]
  unfold sF
  simp
theorem s_m_t_96 {σ τ : ga_S} {f : Int} {N : Nat} (hE : ENV σ τ f N) {d : Nat} (hd : 1 ≤ d) (hb : τ fM_isBad 0 0 = 0) (now t : Int) : ∀ p : Int, 0 ≤ p → p ≤ N → m_test_96 d (ga_up τ fM_at 0 0 (f + p)) now t (cdM (σ fT_kinds 0 p)) = (let e := sk (fun q => sF (σ fT_kinds 0 q)) (N + 1) p; if f + e = t then (c_m_odd d (ga_up τ fM_at 0 0 (f + e))).bind (fun q19 => m_test_157 d q19.2 now) else m_test_157 d (ga_up τ fM_at 0 0 (f + e)) now) := by
  have hf := hE.1
  have hN := hE.2.1
  have stop : ∀ p : Int, 0 ≤ p → p ≤ N → sF (σ fT_kinds 0 p) = false → m_test_96 d (ga_up τ fM_at 0 0 (f + p)) now t (cdM (σ fT_kinds 0 p)) = (if f + p = t then (c_m_odd d (ga_up τ fM_at 0 0 (f + p))).bind (fun q19 => m_test_157 d q19.2 now) else m_test_157 d (ga_up τ fM_at 0 0 (f + p)) now) := by
    intro p h0 h1 hs
    have k := hE.2.2.2.1 p h0 h1
    have ns : ¬ (cdM (σ fT_kinds 0 p) = 3 ∨ (100 ≤ cdM (σ fT_kinds 0 p) ∧ cdM (σ fT_kinds 0 p) ≤ 103) ∨ cdM (σ fT_kinds 0 p) = 154 ∨ cdM (σ fT_kinds 0 p) = 153) := fun z => by
      have := (sF_cd ⟨k.1, k.2.1⟩).mpr z
      rw [hs] at this; cases this
    rw [e_m_test_96, if_neg (fun z => ns (Or.inl z)), s_m_isArt hd]
    simp only [Option.bind_some]
    rw [decide_eq_false (fun z => ns (Or.inr (Or.inl z))), if_pos b2i_f, if_neg (fun z => ns (Or.inr (Or.inr (Or.inl z)))), if_neg (fun z => ns (Or.inr (Or.inr (Or.inr z)))), up_eq]
  refine rg_ind (n := (N : Int)) ?_ ?_
  · intro p h h0 h1
    have e : p = N := by omega
    have hs : sF (σ fT_kinds 0 p) = false := by
      rw [e]
      rcases hE.2.2.2.2.1 with z | z <;> rw [z] <;> decide
    rw [sk_x (f := fun q => sF (σ fT_kinds 0 q)) (by omega) hs]
    exact stop p h0 h1 hs
  · intro p h ih h0 h1
    have k := hE.2.2.2.1 p h0 h1
    have k1 := hE.2.2.2.1 (p + 1) (by omega) (by omega)
    cases hs : sF (σ fT_kinds 0 p) with
    | false =>
      rw [sk_x (f := fun q => sF (σ fT_kinds 0 q)) (by omega) hs]
      exact stop p h0 h1 hs
    | true =>
      have ys := (sF_cd ⟨k.1, k.2.1⟩).mp hs
      rw [sk_s (f := fun q => sF (σ fT_kinds 0 q)) (by omega) hs, ← ih (by omega) (by omega)]
      have nx : m_test_126 d (ga_up τ fM_at 0 0 (f + p)) now t = m_test_96 d (ga_up τ fM_at 0 0 (f + (p + 1))) now t (cdM (σ fT_kinds 0 (p + 1))) := by
        obtain ⟨d, rfl⟩ : ∃ e, d = e + 1 := ⟨d - 1, by omega⟩
        rw [e_m_test_126, up_eq, up_up, w32_ok (by omega), show f + p + 1 = f + (p + 1) by omega, e_m_look, up_F (F' := fM_isBad) (by decide), if_pos hb, up_eq, ck_ok _ (by omega), up_F (F' := fM_token) (by decide), k1.2.2]
        rfl
      rw [e_m_test_96]
      by_cases c1 : cdM (σ fT_kinds 0 p) = 3
      · rw [if_pos c1, nx]
      · rw [if_neg c1, s_m_isArt hd]
        simp only [Option.bind_some]
        by_cases c2 : 100 ≤ cdM (σ fT_kinds 0 p) ∧ cdM (σ fT_kinds 0 p) ≤ 103
        · rw [decide_eq_true c2, if_neg b2i_n, nx]
        · rw [decide_eq_false c2, if_pos b2i_f]
          by_cases c3 : cdM (σ fT_kinds 0 p) = 154
          · rw [if_pos c3, nx]
          · rw [if_neg c3, if_pos (by omega), nx]
theorem endT_sF {now k : Int} (h : endT now k) : sF k = false := by
  unfold endT at h
  unfold sF
  exact decide_eq_false (by omega)
def tsC : List Nat := [fR_p, fR_bad, fR_runs, fR_runFrom, fR_runTo, fR_thingFrom, fR_thingTo, fR_isNot, fR_form, fR_propertyFrom, fR_propertyTo, fR_behindFrom, fR_placeSort, fR_placeFrom, fR_placeTo, fR_whatAt]
def tsM : List Nat := [fM_at, fM_isBad, fM_badAt, fM_runs, fM_runFrom, fM_runSize, fM_thingSort, fM_thingRun, fM_thingAt, fM_what, fM_tFirst, fM_tNot, fM_tForm, fM_tThing, fM_tThingRun, fM_tRun, fM_tWhat, fM_tWay, fM_tOther, fM_tOtherRun, fM_tEnd, fM_tCount]
/-- a run of the model is the tokens from a up to b -/
def rnR (σ τ : ga_S) (f r a b : Int) : Prop := 0 ≤ r ∧ r < τ fM_runs 0 0 ∧ τ fM_runFrom 0 r = f + a ∧ τ fM_runSize 0 r = b - a ∧ a < b ∧ (0 ≤ a ∧ ∀ q, 0 ≤ q → q < b → σ fT_kinds 0 q ≠ 3 ∧ σ fT_kinds 0 q ≠ 8) ∧ ∀ q, a ≤ q → q < b → σ fT_kinds 0 q = 0
/-- a thing as a test's row has it -/
def thE (σ τ : ga_S) (f a b x r : Int) : Prop := ∃ s t, x = s * 10000 + t ∧ 0 ≤ t ∧ t < 10000 ∧ thR σ τ f a b s t r
/-- row j of the model is what the component finds in a test -/
def tR0 (σ τ : ga_S) (f a b j : Int) : Prop :=
  (σ fR_form 0 0 = 4 ∧ τ fM_tForm 0 j = 5 ∧ τ fM_tNot 0 j = 0 ∧ τ fM_tFirst 0 j = f + a ∧ τ fM_tEnd 0 j = f + b) ∨
  (τ fM_tNot 0 j = σ fR_isNot 0 0 ∧ thE σ τ f (σ fR_thingFrom 0 0) (σ fR_thingTo 0 0) (τ fM_tThing 0 j) (τ fM_tThingRun 0 j) ∧
    ((σ fR_form 0 0 = 0 ∧ τ fM_tForm 0 j = 3 ∧ rnR σ τ f (τ fM_tRun 0 j) (σ fR_behindFrom 0 0) b) ∨
     (σ fR_form 0 0 = 1 ∧ τ fM_tForm 0 j = 4 ∧ τ fM_tWay 0 j = σ fR_placeSort 0 0 ∧ thE σ τ f (σ fR_placeFrom 0 0) (σ fR_placeTo 0 0) (τ fM_tOther 0 j) (τ fM_tOtherRun 0 j)) ∨
     (σ fR_form 0 0 = 2 ∧ τ fM_tForm 0 j = 0 ∧ rnR σ τ f (τ fM_tRun 0 j) (σ fR_propertyFrom 0 0) (σ fR_propertyTo 0 0) ∧ τ fM_tWhat 0 j = f + σ fR_behindFrom 0 0 ∧ (((σ fT_kinds 0 (σ fR_behindFrom 0 0) = 1 ∨ σ fT_kinds 0 (σ fR_behindFrom 0 0) = 2) ∧ b = σ fR_behindFrom 0 0 + 1) ∨ rnR σ τ f (τ fM_tOtherRun 0 j) (σ fR_behindFrom 0 0) b)) ∨
     (σ fR_form 0 0 = 3 ∧ τ fM_tNot 0 j = 0 ∧ ((σ fT_kinds 0 (σ fR_behindFrom 0 0) = 60 ∧ τ fM_tForm 0 j = 1) ∨ (σ fT_kinds 0 (σ fR_behindFrom 0 0) = 61 ∧ τ fM_tForm 0 j = 2)) ∧ rnR σ τ f (τ fM_tRun 0 j) (σ fR_propertyFrom 0 0) (σ fR_propertyTo 0 0) ∧ τ fM_tWhat 0 j = f + (b - 1) ∧ σ fT_kinds 0 (b - 1) = 1 ∧ 0 ≤ σ fR_behindFrom 0 0 ∧ σ fR_behindFrom 0 0 < b)))
/-- equal, and a truth value -/
def nE (x y : Int) : Prop := x = y ∧ (y = 0 ∨ y = 1)
/-- the places that a test tells are not ahead of it -/
def tB (σ : ga_S) (a b : Int) : Prop := (σ fR_isNot 0 0 = 0 ∨ σ fR_isNot 0 0 = 1) ∧ (σ fR_form 0 0 = 4 ∨ ((a ≤ σ fR_thingFrom 0 0 ∧ σ fR_thingTo 0 0 ≤ b) ∧ (σ fR_form 0 0 = 0 ∨ σ fR_form 0 0 = 2 → a ≤ σ fR_behindFrom 0 0 ∧ σ fR_behindFrom 0 0 < b) ∧ (σ fR_form 0 0 = 1 → a ≤ σ fR_placeFrom 0 0 ∧ σ fR_placeTo 0 0 ≤ b) ∧ (σ fR_form 0 0 = 2 ∨ σ fR_form 0 0 = 3 → a ≤ σ fR_propertyFrom 0 0 ∧ σ fR_propertyTo 0 0 ≤ b) ∧ (σ fR_form 0 0 = 2 → σ fR_thingTo 0 0 ≤ σ fR_behindFrom 0 0)))
def tRw (σ τ : ga_S) (f a b j : Int) : Prop := tR0 σ τ f a b j ∧ tB σ a b ∧ τ fM_tFirst 0 j = f + a
/-- the thing and the beginning of the tests stay -/
def thK (τ τ' : ga_S) : Prop := τ' fM_tThing = τ fM_tThing ∧ τ' fM_tFirst = τ fM_tFirst
/-- what a test leaves -/
def tsP (σ σ' τ τ' : ga_S) (f : Int) (N : Nat) (a b : Int) : Prop := PR σ' τ' f N ∧ JR σ' τ' ∧ fr tsC σ σ' ∧ fr tsM τ τ' ∧ σ' fR_runs 0 0 = σ fR_runs 0 0 ∧ rKeepC σ σ' ∧ rKeep τ τ' ∧ tKeep τ τ' (τ fM_tCount 0 0) ∧ τ' fM_tCount 0 0 = τ fM_tCount 0 0 + 1 ∧ (σ' fR_bad 0 0 = -1 → σ' fR_p 0 0 = b ∧ tRw σ' τ' f a b (τ fM_tCount 0 0))
/-- a test without is -/
theorem T_say {σ τ : ga_S} {f : Int} {N : Nat} (hE : ENV σ τ f N) (h : PR σ τ f N) (hJ : JR σ τ) (hb : σ fR_bad 0 0 = -1) {d : Nat} (hd : 2 ≤ d) {now b : Int} (hT : toT (σ fT_kinds 0) now (σ fR_p 0 0) b) (hbN : b ≤ N) (hj : 0 ≤ τ fM_tCount 0 0 ∧ τ fM_tCount 0 0 < 1700) (h1 : τ fM_tNot 0 (τ fM_tCount 0 0) = 0) (h2 : τ fM_tFirst 0 (τ fM_tCount 0 0) = f + σ fR_p 0 0) (hi0 : σ fR_isNot 0 0 = 0) : ∃ σ' τ', r_testShape_57 d (ga_up σ fR_form 0 0 4) (σ fR_p 0 0) b = some (0, σ') ∧ (c_m_look d (ga_up τ fM_tForm 0 (τ fM_tCount 0 0) 5)).bind (fun q10 => m_test_96 d q10.2 now (f + σ fR_p 0 0) q10.1) = some (0, τ') ∧ σ' fR_form 0 0 = 4 ∧ tsP σ σ' τ τ' f N (σ fR_p 0 0) b := by
  have hf := hE.1
  have hN := hE.2.1
  have hR := h.1
  have ok := h.2.resolve_right (fun z => by omega)
  obtain ⟨hT1, hT2, hT3⟩ := hT
  have E1 : ENV (ga_up σ fR_form 0 0 4) (ga_up τ fM_tForm 0 (τ fM_tCount 0 0) 5) f N := ENV_c hE (up_F (by decide) ..) (up_F (by decide) ..)
  have P1 : PR (ga_up σ fR_form 0 0 4) (ga_up τ fM_tForm 0 (τ fM_tCount 0 0) 5) f N := PR_c h (up_F (by decide) ..) (up_F (by decide) ..) (up_F (by decide) ..) (up_F (by decide) ..) (up_F (by decide) ..)
  have kk : (ga_up σ fR_form 0 0 4) fT_kinds = σ fT_kinds := up_F (by decide) ..
  have S := sk_all (f := fun q => sF (σ fT_kinds 0 q)) (n := b) (σ fR_p 0 0)
  have eSS : sk (fun q => sF (σ fT_kinds 0 q)) (N + 1) (σ fR_p 0 0) = sk (fun q => sF (σ fT_kinds 0 q)) b (σ fR_p 0 0) := by
    have A := sk_all (f := fun q => sF (σ fT_kinds 0 q)) (n := (N : Int) + 1) (σ fR_p 0 0)
    have sb : sF (σ fT_kinds 0 b) = false := endT_sF hT2
    have le : sk (fun q => sF (σ fT_kinds 0 q)) (N + 1) (σ fR_p 0 0) ≤ b := by
      refine Classical.byContradiction fun hc => ?_
      have := A.2.2.2 b hT1 (by omega)
      rw [sb] at this; cases this
    have a1 : sF (σ fT_kinds 0 (sk (fun q => sF (σ fT_kinds 0 q)) (N + 1) (σ fR_p 0 0))) = false := A.2.2.1 (by omega)
    have b1 := S.2.1 hT1
    refine Int.le_antisymm ?_ ?_
    · refine Classical.byContradiction fun hc => ?_
      have x := A.2.2.2 (sk (fun q => sF (σ fT_kinds 0 q)) b (σ fR_p 0 0)) S.1 (by omega)
      have y := S.2.2.1 (by omega)
      rw [x] at y; cases y
    · refine Classical.byContradiction fun hc => ?_
      have x := S.2.2.2 _ A.1 (by omega)
      rw [a1] at x; cases x
  have c57 := s_r_ts_57 (σ := ga_up σ fR_form 0 0 4) (d := d) (by omega) (σ fR_p 0 0) (b := b) (by omega) (fun q h0 h1 => by rw [kk]; exact (hE.2.2.2.1 q h0 (by omega)).1) (σ fR_p 0 0) ok.2.2.1 hT1
  rw [show ga_up (ga_up σ fR_form 0 0 4) fR_p 0 0 (σ fR_p 0 0) = ga_up σ fR_form 0 0 4 from up_id (by rw [up_F (by decide)]), kk] at c57
  have m96 := s_m_t_96 E1 (d := d) (by omega) (by rw [up_F (by decide)]; exact ok.2.1) now (f + σ fR_p 0 0) (σ fR_p 0 0) ok.2.2.1 ok.2.2.2.1
  rw [show ga_up (ga_up τ fM_tForm 0 (τ fM_tCount 0 0) 5) fM_at 0 0 (f + σ fR_p 0 0) = ga_up τ fM_tForm 0 (τ fM_tCount 0 0) 5 from up_id (by rw [up_F (by decide)]; exact ok.2.2.2.2), kk] at m96
  simp only [eSS] at m96
  rw [c57, s_m_look E1 P1 (by omega), up_F (F' := fR_bad) (by decide), if_pos hb, up_F (F' := fR_p) (by decide), kk]
  simp only [Option.bind_some]
  rw [m96]
  -- behind the words, at e
  obtain ⟨e, ee⟩ : ∃ e, e = sk (fun q => sF (σ fT_kinds 0 q)) b (σ fR_p 0 0) := ⟨_, rfl⟩
  rw [← ee] at S ⊢
  have ebN := S.2.1 hT1
  have Pe : PR (ga_up (ga_up σ fR_form 0 0 4) fR_p 0 0 e) (ga_up (ga_up τ fM_tForm 0 (τ fM_tCount 0 0) 5) fM_at 0 0 (f + e)) f N := by
    unfold PR
    rw [up_F (F' := fR_bad) (by decide), up_F (F' := fR_bad) (by decide), up_F (F' := fM_isBad) (by decide), up_F (F' := fM_isBad) (by decide), up_eq, up_eq]
    exact ⟨by omega, Or.inl ⟨hb, ok.2.1, by omega, by omega, rfl⟩⟩
  have Ee : ENV (ga_up (ga_up σ fR_form 0 0 4) fR_p 0 0 e) (ga_up (ga_up τ fM_tForm 0 (τ fM_tCount 0 0) 5) fM_at 0 0 (f + e)) f N := ENV_c E1 (up_F (by decide) ..) (up_F (by decide) ..)
  have jc : (ga_up (ga_up τ fM_tForm 0 (τ fM_tCount 0 0) 5) fM_at 0 0 (f + e)) fM_tCount 0 0 = τ fM_tCount 0 0 := by rw [up_F (by decide), up_F (by decide)]
  -- the frame of all of it
  have fC : ∀ σ', fr pcL (ga_up (ga_up σ fR_form 0 0 4) fR_p 0 0 e) σ' → fr tsC σ σ' ∧ σ' fR_runs 0 0 = σ fR_runs 0 0 ∧ rKeepC σ σ' := by
    intro σ' hF
    refine ⟨fr_trans (fr_trans (fr_u (by decide)) (fr_u (by decide))) (fr_sub hF (by decide)), ?_, rKeepC_eq ?_ ?_⟩
    · rw [hF _ (by decide), up_F (by decide), up_F (by decide)]
    · rw [hF _ (by decide), up_F (by decide), up_F (by decide)]
    · rw [hF _ (by decide), up_F (by decide), up_F (by decide)]
  have fM : ∀ τ', fr teM (ga_up (ga_up τ fM_tForm 0 (τ fM_tCount 0 0) 5) fM_at 0 0 (f + e)) τ' → fr tsM τ τ' ∧ rKeep τ τ' ∧ τ' fM_runs 0 0 = τ fM_runs 0 0 := by
    intro τ' hF
    refine ⟨fr_trans (fr_trans (fr_u (by decide)) (fr_u (by decide))) (fr_sub hF (by decide)), rKeep_eq ?_ ?_ ?_, ?_⟩
    · rw [hF _ (by decide), up_F (by decide), up_F (by decide)]
    · rw [hF _ (by decide), up_F (by decide), up_F (by decide)]
    · rw [hF _ (by decide), up_F (by decide), up_F (by decide)]
    · rw [hF _ (by decide), up_F (by decide), up_F (by decide)]
  have kU : tKeep τ (ga_up (ga_up τ fM_tForm 0 (τ fM_tCount 0 0) 5) fM_at 0 0 (f + e)) (τ fM_tCount 0 0) := tKeep_trans tKeep_u (tKeep_f (L := [fM_at]) (fr_u (by decide)) (mem_no (by decide)))
  by_cases c1 : e = σ fR_p 0 0
  · -- wrong at once
    obtain ⟨σ', τ', g1, g2, g3, g4, g5, g6⟩ := P_wrong Pe (d := d) (by omega)
    rw [if_pos (show f + e = f + σ fR_p 0 0 by omega), g2]
    simp only [Option.bind_some]
    have bad := (g3.2.resolve_left (fun z => g4 z.1)).2.2.1
    have jt : τ' fM_tCount 0 0 = τ fM_tCount 0 0 := by rw [g6 _ (by decide), jc]
    rw [e_m_test_157, mb_351 bad (by rw [jt]; exact hj), jt]
    have e148 : r_testShape_148 d (ga_up (ga_up σ fR_form 0 0 4) fR_p 0 0 e) = some (0, σ') := by rw [e_r_testShape_148, g1]; rfl
    have e135 : r_testShape_135 d (ga_up (ga_up σ fR_form 0 0 4) fR_p 0 0 e) (σ fR_p 0 0) b = some (0, σ') := by
      rw [e_r_testShape_135, up_eq]
      by_cases c2 : e < b
      · rw [if_pos c2, e148]
      · rw [if_neg c2, if_pos (by omega), e148]
    have g6' : fr teM (ga_up (ga_up τ fM_tForm 0 (τ fM_tCount 0 0) 5) fM_at 0 0 (f + e)) (ga_up (ga_up τ' fM_tEnd 0 (τ fM_tCount 0 0) (τ' fM_at 0 0)) fM_tCount 0 0 (τ fM_tCount 0 0 + 1)) := fr_trans (fr_sub g6 (by decide)) (fr_trans (fr_u (by decide)) (fr_u (by decide)))
    obtain ⟨a1, a2, a3⟩ := fC σ' g5
    obtain ⟨b1, b2, b3⟩ := fM _ g6'
    refine ⟨σ', _, e135, rfl, by rw [g5 _ (by decide), up_F (by decide), up_eq], ?_, ?_, a1, b1, a2, a3, b2, ?_, ?_, fun z => absurd z g4⟩
    · exact PR_c g3 rfl rfl (by rw [up_F (by decide), up_F (by decide)]) (by rw [up_F (by decide), up_F (by decide)]) (by rw [up_F (by decide), up_F (by decide)])
    · exact JR_bad hJ a2 b3 g4
    · exact tKeep_trans kU (tKeep_trans (tKeep_f g6 (mem_no (by decide))) (tKeep_trans tKeep_u (tKeep_f (L := [fM_tCount]) (fr_u (by decide)) (mem_no (by decide)))))
    · rw [up_eq]
  · -- some words; the end
    obtain ⟨σ', τ', g1, g2, g3, g4, g5, g6, g7, g8, g9⟩ := T_end Ee Pe (d := d) (by omega) (now := now) (b := b) (fun q h1 h2 => by rw [up_eq] at h2; rw [up_F (by decide), up_F (by decide)]; exact hT3 q (by omega) h1) (by rw [up_F (by decide), up_F (by decide)]; exact hT2) (fun _ => by rw [up_eq]; exact ebN) (by rw [jc]; exact hj)
    rw [if_neg (show ¬ f + e = f + σ fR_p 0 0 by omega), e_m_test_157, g2]
    rw [jc] at g6 g7 g8
    have e135 : r_testShape_135 d (ga_up (ga_up σ fR_form 0 0 4) fR_p 0 0 e) (σ fR_p 0 0) b = some (0, σ') := by
      rw [e_r_testShape_135, up_eq]
      rw [e_r_testShape_528] at g1
      obtain ⟨d, rfl⟩ : ∃ e, d = e + 1 := ⟨d - 1, by omega⟩
      rw [e_r_end, up_F (F' := fR_bad) (by decide), up_F (F' := fR_bad) (by decide), if_pos hb, up_eq] at g1
      by_cases c2 : e < b
      · rw [if_pos c2, e_r_testShape_148]
        rw [if_neg (by omega)] at g1
        have w1 := s_r_wrong (σ := ga_up (ga_up σ fR_form 0 0 4) fR_p 0 0 e) (d := d) (by omega)
        have w2 := s_r_wrong (σ := ga_up (ga_up σ fR_form 0 0 4) fR_p 0 0 e) (d := d + 1) (by omega)
        rw [w2, ← w1]
        simp only [Option.bind_assoc] at g1
        exact g1
      · rw [if_neg c2, if_neg (by omega)]
        rw [if_pos (by omega)] at g1
        exact g1
    obtain ⟨a1, a2, a3⟩ := fC σ' g4
    obtain ⟨b1, b2, b3⟩ := fM _ g5
    refine ⟨σ', _, e135, rfl, by rw [g4 _ (by decide), up_F (by decide), up_eq], g3, ?_, a1, b1, a2, a3, b2, tKeep_trans kU g6, g7, fun z => ?_⟩
    · refine JR_mv hJ a2 b3 (a1 _ (by decide)) (fun z => ⟨hb, Or.inr ?_⟩)
      have := g9 z
      rw [this.2.2]
      rw [up_eq] at this
      omega
    · have q := g9 z
      rw [up_eq] at q
      refine ⟨q.2.2, Or.inl ⟨?_, ?_, ?_, ?_, ?_⟩, ⟨Or.inl (by rw [g4 _ (by decide), up_F (by decide), up_F (by decide)]; exact hi0), Or.inl ?_⟩, by rw [g5 _ (by decide), up_F (by decide), up_F (by decide)]; exact h2⟩
      · rw [g4 _ (by decide), up_F (by decide), up_eq]
      · rw [g5 _ (by decide), up_F (by decide), up_eq]
      · rw [g5 _ (by decide), up_F (by decide), up_F (by decide)]; exact h1
      · rw [g5 _ (by decide), up_F (by decide), up_F (by decide)]; exact h2
      · rw [g8, up_eq, q.2.1]
      · rw [g4 _ (by decide), up_F (by decide), up_eq]

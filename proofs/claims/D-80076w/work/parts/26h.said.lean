/-! sayings in tests -/
theorem jn_ne : ∀ (W : List (List Int)), W ≠ [] → (∀ w ∈ W, w ≠ []) → jn W ≠ []
  | [], h, _ => absurd rfl h
  | [w], _, h => by
    have := h w (List.mem_cons_self ..)
    rw [jn1]; exact this
  | w :: x :: r, _, _ => by rw [jn2]; simp
def frA (σ0 : ga_S) (a b : Int) : Bool := (rg a b).all (fun q => decide (σ0 fT_kinds 0 q = 0))
/-- tokens that are just a thing -/
def isV (σ0 : ga_S) (ik nk a b : Int) : Int := if b - a = 1 ∧ σ0 fT_kinds 0 a = 63 then (if ik = -1 then -1 else -2) else if σ0 fT_kinds 0 (b - 1) = 62 then (if nk ≠ -1 ∧ (b - a = 1 ∨ b - a = 2 ∧ σ0 fT_kinds 0 a = 11) then -3 else -1) else if frA σ0 (a + artN σ0 a) b = true then dN σ0 (nmT σ0 (a + artN σ0 a) b) 2 else -1
section
variable {σ0 τ0 : ga_S} {f : Int} {N : Nat}
theorem dN_nil (E : E0 σ0 τ0 f N) (s : Int) : dN σ0 [] s = -1 := by
  have : fnd σ0 [] 0 = -1 := by
    refine Classical.byContradiction fun c => ?_
    have fr0 := (fnd_r (σ := σ0) (nm := []) (Int.le_refl 0)).resolve_left c
    have lv : live σ0 (fnd σ0 [] 0) := ⟨fr0.1, fr0.2.1, fr0.2.2.1⟩
    have en : ent σ0 (fnd σ0 [] 0) = [] := fr0.2.2.2
    obtain ⟨k', _, _, W, hW, h1, _, _, _, h2, _⟩ := E.2.2.1.2.2.2.2.1 _ lv
    have ne : W ≠ [] := by
      intro z
      rw [z] at h1
      simp at h1
    have j := jn_ne W ne (fun w hw => (hW w hw).2.1)
    rcases h2 with h2 | h2
    · rw [en] at h2; exact j h2.2.symm
    · rw [en, jn_addS W ne] at h2
      have := h2.2.2
      simp at this
  unfold dN
  rw [if_pos (Or.inl this)]
theorem isV_r (E : E0 σ0 τ0 f N) (ik nk a b : Int) : isV σ0 ik nk a b = -1 ∨ thO σ0 ik nk (isV σ0 ik nk a b) := by
  unfold isV thO
  by_cases c1 : b - a = 1 ∧ σ0 fT_kinds 0 a = 63
  · rw [if_pos c1]
    by_cases c2 : ik = -1
    · rw [if_pos c2]; exact Or.inl rfl
    · rw [if_neg c2]; exact Or.inr (Or.inl ⟨rfl, c2⟩)
  · rw [if_neg c1]
    by_cases c2 : σ0 fT_kinds 0 (b - 1) = 62
    · rw [if_pos c2]
      by_cases c3 : nk ≠ -1 ∧ (b - a = 1 ∨ b - a = 2 ∧ σ0 fT_kinds 0 a = 11)
      · rw [if_pos c3]; exact Or.inr (Or.inr (Or.inl ⟨rfl, c3.1⟩))
      · rw [if_neg c3]; exact Or.inl rfl
    · rw [if_neg c2]
      by_cases c3 : frA σ0 (a + artN σ0 a) b = true
      · rw [if_pos c3]
        rcases e0_dN E (nmT σ0 (a + artN σ0 a) b) 2 with h | h
        · exact Or.inl h
        · exact Or.inr (Or.inr (Or.inr ⟨h.1, h.2.1⟩))
      · rw [if_neg c3]; exact Or.inl rfl
theorem frA_B {a b : Int} (ha : 0 ≤ a) (hab : a ≤ b) (hb : b ≤ N) (h : frA σ0 a b = true) : frB σ0 N a b := ⟨ha, hab, hb, fun q h1 h2 => of_decide_eq_true (rg_allI.mp h q h1 h2)⟩
theorem k_isThing_l {σ : ga_S} (K : KC σ0 σ) {v3 b : Int} (hb : b ≤ 5000) {d : Nat} (hd : 1 ≤ d) : ∀ v4, 0 ≤ v4 → r_isThing_119 d σ b v3 v4 = if frA σ0 v4 b = true then (if v3 < b then (c_r_mean d σ v3 b 2).bind fun q5 => some (q5.1, q5.2) else some (-1, σ)) else some (-1, σ) := by
  have kk : σ fT_kinds 0 = σ0 fT_kinds 0 := K.2.1 _ (by decide)
  refine rg_ind (n := b) (fun i hi h0 => ?_) (fun i hi ih h0 => ?_)
  · rw [e_r_isThing_119, if_neg (by omega)]
    unfold frA
    rw [rg_all0 hi, if_pos rfl]
  · rw [e_r_isThing_119, if_pos hi, s_r_isFree hd (by omega), kk]
    simp only [Option.bind_some]
    have e : frA σ0 i b = (decide (σ0 fT_kinds 0 i = 0) && frA σ0 (i + 1) b) := by unfold frA; rw [rg_all hi]
    by_cases c : σ0 fT_kinds 0 i = 0
    · rw [decide_eq_true c, Bool.true_and] at e
      rw [decide_eq_true c, if_neg b2i_n, w32_ok (by omega), ih (by omega), e]
    · rw [decide_eq_false c, Bool.false_and] at e
      rw [decide_eq_false c, if_pos b2i_f, e, if_neg (by decide)]
theorem k_isThing {σ : ga_S} (E : E0 σ0 τ0 f N) (K : KC σ0 σ) {a b ik nk : Int} (h1 : 0 ≤ a) (h2 : a < b) (h3 : b ≤ N) (hi : σ fR_itKind 0 0 = ik) (hn : σ fR_nounKind 0 0 = nk) {d : Nat} (hd : 5 ≤ d) : ∃ σ', c_r_isThing d σ a b = some (isV σ0 ik nk a b, σ') ∧ fr spL σ σ' ∧ KC σ0 σ' := by
  obtain ⟨d, rfl⟩ : ∃ e, d = e + 1 := ⟨d - 1, by omega⟩
  have hN := E.1.2.2.1
  have kk : σ fT_kinds 0 = σ0 fT_kinds 0 := K.2.1 _ (by decide)
  have ka := E.1.2.2.2.1 a h1 (by omega)
  have aR := artN_r σ0 a
  have X : ∃ σ', (¬ (b - a = 1 ∧ σ0 fT_kinds 0 a = 63) → r_isThing_40 d σ a b = some (isV σ0 ik nk a b, σ')) ∧ fr spL σ σ' ∧ KC σ0 σ' := by
    by_cases c2 : σ0 fT_kinds 0 (b - 1) = 62
    · refine ⟨σ, fun c1 => ?_, fr_refl _ _, K⟩
      have ev : isV σ0 ik nk a b = if nk ≠ -1 ∧ (b - a = 1 ∨ b - a = 2 ∧ σ0 fT_kinds 0 a = 11) then -3 else -1 := by unfold isV; rw [if_neg c1, if_pos c2]
      rw [e_r_isThing_40, w32_ok (by omega), s_r_is (by omega) (by omega), kk]
      simp only [Option.bind_some]
      rw [decide_eq_true c2, if_neg b2i_n, hn, w32_ok (by omega), ev]
      by_cases c3 : nk = -1
      · rw [if_pos c3, if_neg (fun z => z.1 c3)]
      · rw [if_neg c3]
        by_cases c4 : b - a = 1
        · rw [if_pos c4, if_pos ⟨c3, Or.inl c4⟩, e_r_isThing_86]
        · rw [if_neg c4]
          by_cases c5 : b - a = 2
          · rw [if_pos c5, s_r_is (by omega) (by omega), kk]
            simp only [Option.bind_some]
            by_cases c6 : σ0 fT_kinds 0 a = 11
            · rw [decide_eq_true c6, if_neg b2i_n, if_pos ⟨c3, Or.inr ⟨c5, c6⟩⟩, e_r_isThing_86]
            · rw [decide_eq_false c6, if_pos b2i_f, if_neg (fun z => z.2.elim c4 (fun y => c6 y.2))]
          · rw [if_neg c5, if_neg (fun z => z.2.elim c4 (fun y => c5 y.1))]
    · obtain ⟨A, eA⟩ : ∃ x, x = a + artN σ0 a := ⟨_, rfl⟩
      have go : ∃ σ', r_isThing_119 d σ b A A = some ((if frA σ0 A b = true then dN σ0 (nmT σ0 A b) 2 else -1), σ') ∧ fr spL σ σ' ∧ KC σ0 σ' := by
        rw [k_isThing_l K (by omega) (by omega) A (by omega)]
        by_cases c3 : frA σ0 A b = true
        · rw [if_pos c3, if_pos c3]
          by_cases c4 : A < b
          · obtain ⟨σ', g1, g2, _, g4⟩ := k_mean E K (frA_B (N := N) (by omega) (by omega) h3 c3) (d := d) (by omega) 2
            rw [if_pos c4, g1]
            exact ⟨σ', rfl, g2, g4⟩
          · have z : nmT σ0 A b = [] := by unfold nmT wsT; rw [rg_n (by omega)]; rfl
            rw [if_neg c4, z, dN_nil E]
            exact ⟨σ, rfl, fr_refl _ _, K⟩
        · rw [if_neg c3, if_neg c3]
          exact ⟨σ, rfl, fr_refl _ _, K⟩
      obtain ⟨σ', g1, g2, g3⟩ := go
      refine ⟨σ', fun c1 => ?_, g2, g3⟩
      have ev : isV σ0 ik nk a b = if frA σ0 A b = true then dN σ0 (nmT σ0 A b) 2 else -1 := by unfold isV; rw [if_neg c1, if_neg c2, ← eA]
      rw [e_r_isThing_40, w32_ok (by omega), s_r_is (by omega) (by omega), kk]
      simp only [Option.bind_some]
      rw [decide_eq_false c2, if_pos b2i_f, ck_ok _ (by omega), kk, nn_ok _ ka.1, s_k_isArticle (by omega)]
      simp only [Option.bind_some]
      have eA' := eA
      unfold artN at eA'
      by_cases c3 : 9 ≤ σ0 fT_kinds 0 a ∧ σ0 fT_kinds 0 a ≤ 12
      · rw [if_pos c3] at eA'
        rw [decide_eq_true c3, if_neg b2i_n, e_r_isThing_114, w32_ok (by omega), ← eA', g1, ev]
      · rw [if_neg c3] at eA'
        rw [decide_eq_false c3, if_pos b2i_f, e_r_isThing_114, w32_ok (by omega), ← eA', g1, ev]
  obtain ⟨σ', X1, X2, X3⟩ := X
  rw [e_r_isThing, if_pos h2, w32_ok (by omega)]
  by_cases c0 : b - a = 1
  · rw [if_pos c0, s_r_is (by omega) (by omega), kk]
    simp only [Option.bind_some]
    by_cases c1 : σ0 fT_kinds 0 a = 63
    · have ev : isV σ0 ik nk a b = if ik = -1 then -1 else -2 := by unfold isV; rw [if_pos ⟨c0, c1⟩]
      rw [decide_eq_true c1, if_neg b2i_n, hi, ev]
      by_cases c2 : ik = -1
      · rw [if_pos c2, if_pos c2]; exact ⟨σ, rfl, fr_refl _ _, K⟩
      · rw [if_neg c2, if_neg c2]; exact ⟨σ, rfl, fr_refl _ _, K⟩
    · rw [decide_eq_false c1, if_pos b2i_f, X1 (fun z => c1 z.2)]
      exact ⟨σ', rfl, X2, X3⟩
  · rw [if_neg c0, X1 (fun z => c0 z.1)]
    exact ⟨σ', rfl, X2, X3⟩
theorem m_objectOf_l {τ : ga_S} (E : E0 σ0 τ0 f N) (K : KM τ0 τ) {v3 b : Int} (hb : b ≤ N) {d : Nat} : ∀ v4, 0 ≤ v4 → m_objectOf_28 d τ (f + b) v3 (f + v4) = if frA σ0 v4 b = true then ((c_m_means d τ v3 (w32 (f + b - v3)) 4).bind fun q2 => if q2.1 = (-1) then some ((-9), q2.2) else some (q2.1, q2.2)) else some (-9, τ) := by
  have hf := E.1.1
  have hN := E.1.2.1
  refine rg_ind (n := b) (fun i hi h0 => ?_) (fun i hi ih h0 => ?_)
  · rw [e_m_objectOf_28, if_neg (by omega)]
    unfold frA
    rw [rg_all0 hi, if_pos rfl]
  · have tk : τ0 fM_token 0 (f + i) = 3 ↔ σ0 fT_kinds 0 i = 0 := ENV_is E.1 (k := i) (c := 0) h0 (by omega) (by decide)
    rw [e_m_objectOf_28, if_pos (by omega), ck_ok _ (by omega), K fM_token (by decide)]
    have e : frA σ0 i b = (decide (σ0 fT_kinds 0 i = 0) && frA σ0 (i + 1) b) := by unfold frA; rw [rg_all hi]
    by_cases c : σ0 fT_kinds 0 i = 0
    · rw [decide_eq_true c, Bool.true_and] at e
      rw [if_pos (tk.mpr c), w32_ok (by omega), Int.add_assoc, ih (by omega), e]
    · rw [decide_eq_false c, Bool.false_and] at e
      rw [if_neg (fun z => c (tk.mp z)), e, if_neg (by decide)]
/-- a name with an article perhaps -/
def obV (σ0 : ga_S) (a b : Int) : Int := if frA σ0 (a + artN σ0 a) b = true then dN σ0 (nmT σ0 (a + artN σ0 a) b) 2 else -1
theorem m_objectOf {τ : ga_S} (E : E0 σ0 τ0 f N) (K : KM τ0 τ) {a b : Int} (h1 : 0 ≤ a) (h2 : a < b) (h3 : b ≤ N) {d : Nat} (hd : 4 ≤ d) : c_m_objectOf d τ (f + a) (f + b) = some (if obV σ0 a b = -1 then -9 else obV σ0 a b, τ) := by
  obtain ⟨d, rfl⟩ : ∃ e, d = e + 1 := ⟨d - 1, by omega⟩
  have hf := E.1.1
  have hN := E.1.2.1
  have ka := E.1.2.2.2.1 a h1 (by omega)
  have aR := artN_r σ0 a
  obtain ⟨A, eA⟩ : ∃ x, x = a + artN σ0 a := ⟨_, rfl⟩
  have go : m_objectOf_24 d τ (f + b) (f + A) = some (if obV σ0 a b = -1 then -9 else obV σ0 a b, τ) := by
    unfold obV
    rw [← eA, e_m_objectOf_24, m_objectOf_l E K h3 A (by omega)]
    by_cases c3 : frA σ0 A b = true
    · have fB : frB σ0 N A b := frA_B (by omega) (by omega) h3 c3
      rw [if_pos c3, if_pos c3, w32_ok (by omega), m_means E K fB rfl (by omega) (by omega), mN_dN (s := 2) (by omega)]
      simp only [Option.bind_some]
      by_cases c4 : dN σ0 (nmT σ0 A b) 2 = -1
      · rw [if_pos c4, if_pos c4]
      · rw [if_neg c4, if_neg c4]
    · rw [if_neg c3, if_neg c3, if_pos rfl]
  rw [e_m_objectOf, if_pos (by omega), ck_ok _ (by omega), K fM_token (by decide), ka.2.2, s_m_isArt (by omega)]
  simp only [Option.bind_some]
  have ca := cdM_art (k := σ0 fT_kinds 0 a) ⟨ka.1, ka.2.1⟩
  have eA' := eA
  unfold artN at eA'
  by_cases c3 : 9 ≤ σ0 fT_kinds 0 a ∧ σ0 fT_kinds 0 a ≤ 12
  · rw [if_pos c3] at eA'
    rw [decide_eq_true (ca.mpr c3), if_neg b2i_n, w32_ok (by omega), Int.add_assoc, ← eA', go]
  · rw [if_neg c3, Int.add_zero] at eA'
    rw [decide_eq_false (fun z => c3 (ca.mp z)), if_pos b2i_f, e_m_objectOf_23]
    rw [eA'] at go
    exact go
theorem m_thingOf {τ : ga_S} (E : E0 σ0 τ0 f N) (K : KM τ0 τ) {a b ik nk : Int} (h1 : 0 ≤ a) (h2 : a < b) (h3 : b ≤ N) (hi : τ fM_itKind 0 0 = ik) (hn : τ fM_nounKind 0 0 = nk) {d : Nat} (hd : 5 ≤ d) : c_m_thingOf d τ (f + a) (f + b) = some (mT (isV σ0 ik nk a b), τ) := by
  obtain ⟨d, rfl⟩ : ∃ e, d = e + 1 := ⟨d - 1, by omega⟩
  have hf := E.1.1
  have hN := E.1.2.1
  have tA := ENV_is E.1 (k := a) (c := 63) h1 (by omega) (by decide)
  have tT := ENV_is E.1 (k := a) (c := 11) h1 (by omega) (by decide)
  have tB := ENV_is E.1 (k := b - 1) (c := 62) (by omega) (by omega) (by decide)
  have e63 : cdM 63 = 154 := by decide
  have e62 : cdM 62 = 153 := by decide
  have e11 : cdM 11 = 102 := by decide
  rw [e63] at tA
  rw [e62] at tB
  rw [e11] at tT
  have X : ¬ (b - a = 1 ∧ σ0 fT_kinds 0 a = 63) → m_thingOf_36 d τ (f + a) (f + b) (b - a) = some (mT (isV σ0 ik nk a b), τ) := by
    intro c1
    rw [e_m_thingOf_36, if_pos (by omega), w32_ok (by omega), show f + b - 1 = f + (b - 1) by omega, ck_ok _ (by omega), K fM_token (by decide)]
    by_cases c2 : σ0 fT_kinds 0 (b - 1) = 62
    · have ev : isV σ0 ik nk a b = if nk ≠ -1 ∧ (b - a = 1 ∨ b - a = 2 ∧ σ0 fT_kinds 0 a = 11) then -3 else -1 := by unfold isV; rw [if_neg c1, if_pos c2]
      rw [if_pos (tB.mpr c2), hn, ev]
      by_cases c3 : nk = -1
      · rw [if_pos c3, if_neg (fun z => z.1 c3)]; rfl
      · rw [if_neg c3]
        by_cases c4 : b - a = 1
        · rw [if_pos c4, if_pos ⟨c3, Or.inl c4⟩, e_m_thingOf_83]; rfl
        · rw [if_neg c4]
          by_cases c5 : b - a = 2
          · rw [if_pos c5, ck_ok _ (by omega)]
            by_cases c6 : σ0 fT_kinds 0 a = 11
            · rw [if_pos (tT.mpr c6), if_pos ⟨c3, Or.inr ⟨c5, c6⟩⟩, e_m_thingOf_83]; rfl
            · rw [if_neg (fun z => c6 (tT.mp z)), if_neg (fun z => z.2.elim c4 (fun y => c6 y.2))]; rfl
          · rw [if_neg c5, if_neg (fun z => z.2.elim c4 (fun y => c5 y.1))]; rfl
    · have ev : isV σ0 ik nk a b = obV σ0 a b := by unfold isV obV; rw [if_neg c1, if_neg c2]
      rw [if_neg (fun z => c2 (tB.mp z)), e_m_thingOf_91, m_objectOf E K h1 h2 h3 (by omega), ev]
      simp only [Option.bind_some]
      have r : obV σ0 a b = -1 ∨ 0 ≤ obV σ0 a b := by
        unfold obV
        by_cases c3 : frA σ0 (a + artN σ0 a) b = true
        · rw [if_pos c3]
          have := e0_dN E (nmT σ0 (a + artN σ0 a) b) 2
          omega
        · rw [if_neg c3]; exact Or.inl rfl
      unfold mT
      by_cases c4 : obV σ0 a b = -1
      · rw [if_pos c4, if_pos c4]
      · rw [if_neg c4, if_neg c4, if_neg (by omega), if_neg (by omega)]
  rw [e_m_thingOf, w32_ok (by omega), show f + b - (f + a) = b - a by omega]
  by_cases c0 : b - a = 1
  · rw [if_pos c0, ck_ok _ (by omega), K fM_token (by decide)]
    by_cases c1 : σ0 fT_kinds 0 a = 63
    · have ev : isV σ0 ik nk a b = if ik = -1 then -1 else -2 := by unfold isV; rw [if_pos ⟨c0, c1⟩]
      rw [if_pos (tA.mpr c1), hi, ev]
      by_cases c2 : ik = -1
      · rw [if_pos c2, if_pos c2]; rfl
      · rw [if_neg c2, if_neg c2]; rfl
    · rw [if_neg (fun z => c1 (tA.mp z)), X (fun z => c1 z.2)]
  · rw [if_neg c0, X (fun z => c0 z.1)]
end

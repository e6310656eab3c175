/-! sayings, both sides -/
def qL : List Nat := [fM_qForm, fM_qNot, fM_qThing, fM_qProperty, fM_qWhat, fM_qLong, fM_qOther]
def qKp (q : Int) (τ τ' : ga_S) : Prop := ∀ F, F ∈ qL → ∀ k, k ≠ q → τ' F 0 k = τ F 0 k
theorem qKp_t {q : Int} {τ τ1 τ2 : ga_S} (a : qKp q τ τ1) (b : qKp q τ1 τ2) : qKp q τ τ2 := fun F h n hn => (b F h n hn).trans (a F h n hn)
theorem qKp_r (q : Int) (τ : ga_S) : qKp q τ τ := fun _ _ _ _ => rfl
theorem qKp_f {q : Int} {τ τ' : ga_S} {L : List Nat} (h : fr L τ τ') (hL : qL.all (fun F => !(L.contains F)) = true) : qKp q τ τ' := fun F hF n _ => by rw [fr_no h hL hF]
theorem qKp_u (q : Int) (τ : ga_S) (F : Nat) (v : Int) : qKp q τ (ga_up τ F 0 q v) := fun F' _ n hn => by
  by_cases c : F' = F
  · rw [c, up_i hn]
  · rw [up_F c]
/-- the verb at a place -/
def rV (σ0 : ga_S) (i : Int) : Int := if σ0 fT_kinds 0 i = 0 then dN σ0 (nmT σ0 i (i + 1)) 12 else -1
def rlV (σ0 : ga_S) (i : Int) : Int := σ0 fW_verbRelations 0 (rV σ0 i)
def syB (σ0 : ga_S) (ik nk a b i : Int) : Bool := decide (rV σ0 i ≠ -1) && decide (isV σ0 ik nk a i ≠ -1) && decide (isV σ0 ik nk (i + 1) b ≠ -1) && isB (σ0 fW_parents 0) (kdT σ0 ik nk (isV σ0 ik nk a i)) (σ0 fW_relationA 0 (rlV σ0 i)) && isB (σ0 fW_parents 0) (kdT σ0 ik nk (isV σ0 ik nk (i + 1) b)) (σ0 fW_relationB 0 (rlV σ0 i))
def syL (σ0 : ga_S) (ik nk a b i : Int) : List Int := (rg i (b - 1)).filter (syB σ0 ik nk a b)
def syRow (σ0 : ga_S) (ik nk a b s : Int) (σ : ga_S) (i : Int) : Prop := σ fS_what s 0 = 7 ∧ σ fS_thing s 0 = isV σ0 ik nk a i ∧ σ fS_other s 0 = isV σ0 ik nk (i + 1) b ∧ σ fS_which s 0 = rlV σ0 i
def syRoM (σ0 : ga_S) (ik nk a b q : Int) (τ : ga_S) (i : Int) : Prop := τ fM_qThing 0 q = mT (isV σ0 ik nk a i) ∧ τ fM_qOther 0 q = mT (isV σ0 ik nk (i + 1) b) ∧ τ fM_qProperty 0 q = rlV σ0 i
theorem syL_n {σ0 : ga_S} {ik nk a b i : Int} (h : b - 1 ≤ i) : syL σ0 ik nk a b i = [] := by unfold syL; rw [rg_n h]; rfl
theorem syL_s {σ0 : ga_S} {ik nk a b i : Int} (h : i < b - 1) : syL σ0 ik nk a b i = if syB σ0 ik nk a b i = true then i :: syL σ0 ik nk a b (i + 1) else syL σ0 ik nk a b (i + 1) := by
  unfold syL
  rw [rg_s h, List.filter_cons]
section
variable {σ0 τ0 : ga_S} {f : Int} {N : Nat}
def syF : List Nat := fS_what :: fS_thing :: fS_other :: fS_which :: spL
theorem k_saying_l (E : E0 σ0 τ0 f N) {a b ik nk s : Int} (h1 : 0 ≤ a) (h3 : b ≤ N) (hs : 0 ≤ s) (hD : inD σ0 s) (kI : kO σ0 ik) (kN : kO σ0 nk) {d : Nat} (hd : 5 ≤ d) : ∀ i, a < i → i ≤ 5002 → ∀ (σ : ga_S) (n : Int), KC σ0 σ → σ fR_itKind 0 0 = ik → σ fR_nounKind 0 0 = nk → 0 ≤ n → n ≤ i → ∃ σ', r_saying_8 d σ s a b n i = (if n + (syL σ0 ik nk a b i).length = 1 then some (0, σ') else if n + (syL σ0 ik nk a b i).length = 0 then r_saying_228 d σ' a 4 else r_saying_228 d σ' a 7) ∧ KC σ0 σ' ∧ fr syF σ σ' ∧ sKp s σ σ' ∧ (syL σ0 ik nk a b i = [] → fr spL σ σ') ∧ (∀ i0, (syL σ0 ik nk a b i).getLast? = some i0 → syRow σ0 ik nk a b s σ' i0) := by
  have hN := E.1.2.2.1
  have wk := e0_k E
  have wb := e0_b E
  have wr := e0_r E
  refine rg_ind (n := b - 1) (fun i hi hai i5 σ n K hI hn n0 ni => ?_) (fun i hi ih hai i5 σ n K hI hn n0 ni => ?_)
  · rw [e_r_saying_8, syL_n hi, w32_ok (by omega), if_neg (by omega)]
    simp only [List.length_nil, Int.natCast_zero, Int.add_zero]
    exact ⟨σ, rfl, K, fr_refl _ _, sKp_r _ _, fun _ => fr_refl _ _, fun i0 z => by simp at z⟩
  · have kk : σ fT_kinds 0 = σ0 fT_kinds 0 := K.2.1 _ (by decide)
    -- where i is no reading
    have no : ∀ σ1, fr spL σ σ1 → KC σ0 σ1 → r_saying_8 d σ s a b n i = r_saying_204 d σ1 s a b n i → syB σ0 ik nk a b i = false → ∃ σ', r_saying_8 d σ s a b n i = (if n + (syL σ0 ik nk a b i).length = 1 then some (0, σ') else if n + (syL σ0 ik nk a b i).length = 0 then r_saying_228 d σ' a 4 else r_saying_228 d σ' a 7) ∧ KC σ0 σ' ∧ fr syF σ σ' ∧ sKp s σ σ' ∧ (syL σ0 ik nk a b i = [] → fr spL σ σ') ∧ (∀ i0, (syL σ0 ik nk a b i).getLast? = some i0 → syRow σ0 ik nk a b s σ' i0) := by
      intro σ1 f1 K1 e1 hB
      obtain ⟨σ', g1, g2, g3, g4, g5, g6⟩ := ih (by omega) (by omega) σ1 n K1 (by rw [f1 _ (by decide)]; exact hI) (by rw [f1 _ (by decide)]; exact hn) n0 (by omega)
      have sL : syL σ0 ik nk a b i = syL σ0 ik nk a b (i + 1) := by rw [syL_s hi, hB, if_neg (by decide)]
      rw [e1, e_r_saying_204, w32_ok (by omega), g1, sL]
      exact ⟨σ', rfl, g2, fr_trans (fr_sub f1 (by decide)) g3, sKp_t (sKp_f f1 (by decide)) g4, fun z => fr_trans f1 (g5 z), g6⟩
    obtain ⟨σ1, x1, x2, x3⟩ : ∃ σ1, r_saying_8 d σ s a b n i = r_saying_41 d σ1 s a b n i (rV σ0 i) ∧ fr spL σ σ1 ∧ KC σ0 σ1 := by
      rw [e_r_saying_8, w32_ok (x := i + 1) (by omega), if_pos (by omega), s_r_isFree (by omega) (by omega), kk]
      simp only [Option.bind_some]
      unfold rV
      by_cases c : σ0 fT_kinds 0 i = 0
      · have fB : frB σ0 N i (i + 1) := ⟨by omega, by omega, by omega, fun q y1 y2 => by rw [show q = i by omega]; exact c⟩
        obtain ⟨σ1, y1, y2, _, y4⟩ := k_mean E K fB (d := d) (by omega) 12
        rw [decide_eq_true c, if_neg b2i_n, if_pos c, y1]
        exact ⟨σ1, rfl, y2, y4⟩
      · rw [decide_eq_false c, if_pos b2i_f, if_neg c]
        exact ⟨σ, rfl, fr_refl _ _, K⟩
    have rr : rV σ0 i = -1 ∨ (0 ≤ rV σ0 i ∧ rV σ0 i < σ0 fW_verbs 0 0) := by
      unfold rV
      by_cases c : σ0 fT_kinds 0 i = 0
      · rw [if_pos c]
        have := e0_dN E (nmT σ0 i (i + 1)) 12
        have m : mxN σ0 12 = σ0 fW_verbs 0 0 := rfl
        omega
      · rw [if_neg c]; exact Or.inl rfl
    obtain ⟨v, ev⟩ : ∃ x, x = rV σ0 i := ⟨_, rfl⟩
    by_cases cv : rV σ0 i = -1
    · refine no σ1 x2 x3 ?_ (by unfold syB; rw [decide_eq_false (fun z => z cv)]; simp)
      rw [x1, cv, e_r_saying_41, if_pos rfl, e_r_saying_60, if_pos rfl, e_r_saying_81, if_pos rfl]
    · obtain ⟨σ2, a1, a2, a3⟩ := k_isThing E x3 (a := a) (b := i) (ik := ik) (nk := nk) h1 hai (by omega) (by rw [x2 _ (by decide)]; exact hI) (by rw [x2 _ (by decide)]; exact hn) (d := d) (by omega)
      obtain ⟨σ3, b1, b2, b3⟩ := k_isThing E a3 (a := i + 1) (b := b) (ik := ik) (nk := nk) (by omega) (by omega) h3 (by rw [a2 _ (by decide), x2 _ (by decide)]; exact hI) (by rw [a2 _ (by decide), x2 _ (by decide)]; exact hn) (d := d) (by omega)
      have f3 : fr spL σ σ3 := fr_trans x2 (fr_trans a2 b2)
      have e3 : r_saying_8 d σ s a b n i = r_saying_81 d σ3 s a b n i (rV σ0 i) (isV σ0 ik nk a i) (isV σ0 ik nk (i + 1) b) := by
        rw [x1, e_r_saying_41, if_neg cv, a1]
        simp only [Option.bind_some]
        rw [e_r_saying_60, if_neg cv, w32_ok (by omega), b1]
        rfl
      rw [e_r_saying_81, if_neg cv] at e3
      by_cases ca : isV σ0 ik nk a i = -1
      · rw [if_pos ca] at e3
        exact no σ3 f3 b3 e3 (by unfold syB; rw [decide_eq_false (p := isV σ0 ik nk a i ≠ -1) (fun z => z ca)]; simp)
      · rw [if_neg ca] at e3
        by_cases cb : isV σ0 ik nk (i + 1) b = -1
        · rw [if_pos cb] at e3
          exact no σ3 f3 b3 e3 (by unfold syB; rw [decide_eq_false (p := isV σ0 ik nk (i + 1) b ≠ -1) (fun z => z cb)]; simp)
        · have tA := (isV_r E ik nk a i).resolve_left ca
          have tB := (isV_r E ik nk (i + 1) b).resolve_left cb
          have hI3 : σ3 fR_itKind 0 0 = ik := by rw [f3 _ (by decide)]; exact hI
          have hn3 : σ3 fR_nounKind 0 0 = nk := by rw [f3 _ (by decide)]; exact hn
          have vb := wb.2.2.2 (rV σ0 i) (by omega) (by omega)
          have wb2 := wb.2.1
          have wr2 := wr.2.1
          have hF : FO (σ3 fW_parents 0) (σ0 fW_kinds 0 0) := by rw [b3.1 _ (by decide)]; exact wk.1
          have kA := kdT_r E kI kN tA
          have kB := kdT_r E kI kN tB
          have vr : σ3 fW_verbRelations 0 (rV σ0 i) = rlV σ0 i := by rw [b3.1 _ (by decide)]; rfl
          have rl : 0 ≤ rlV σ0 i ∧ rlV σ0 i < 6 := by unfold rlV; omega
          rw [if_neg cb, k_kindOf E b3 hI3 hn3 tA (by omega)] at e3
          simp only [Option.bind_some] at e3
          rw [ck_ok _ (by omega), vr, ck_ok _ rl, s_w_isBelow hF (by omega) _ (by omega) kA.2, b3.1 fW_parents (by decide), b3.1 fW_relationA (by decide)] at e3
          simp only [Option.bind_some] at e3
          have sb : syB σ0 ik nk a b i = (isB (σ0 fW_parents 0) (kdT σ0 ik nk (isV σ0 ik nk a i)) (σ0 fW_relationA 0 (rlV σ0 i)) && isB (σ0 fW_parents 0) (kdT σ0 ik nk (isV σ0 ik nk (i + 1) b)) (σ0 fW_relationB 0 (rlV σ0 i))) := by
            unfold syB
            rw [decide_eq_true (p := rV σ0 i ≠ -1) cv, decide_eq_true (p := isV σ0 ik nk a i ≠ -1) ca, decide_eq_true (p := isV σ0 ik nk (i + 1) b ≠ -1) cb]
            simp only [Bool.true_and]
          cases q1 : isB (σ0 fW_parents 0) (kdT σ0 ik nk (isV σ0 ik nk a i)) (σ0 fW_relationA 0 (rlV σ0 i)) with
          | false =>
            rw [q1, if_pos b2i_f] at e3
            exact no σ3 f3 b3 e3 (by rw [sb, q1, Bool.false_and])
          | true =>
            rw [q1, if_neg b2i_n, k_kindOf E b3 hI3 hn3 tB (by omega)] at e3
            simp only [Option.bind_some] at e3
            rw [ck_ok _ (by omega), vr, ck_ok _ rl, s_w_isBelow hF (by omega) _ (by omega) kB.2, b3.1 fW_parents (by decide), b3.1 fW_relationB (by decide)] at e3
            simp only [Option.bind_some] at e3
            cases q2 : isB (σ0 fW_parents 0) (kdT σ0 ik nk (isV σ0 ik nk (i + 1) b)) (σ0 fW_relationB 0 (rlV σ0 i)) with
            | false =>
              rw [q2, if_pos b2i_f] at e3
              exact no σ3 f3 b3 e3 (by rw [sb, q2, Bool.and_false])
            | true =>
              rw [q2, if_neg b2i_n, nn_ok _ hs, nn_ok _ hs, nn_ok _ hs, ck_ok _ (by omega), nn_ok _ hs, vr] at e3
              obtain ⟨σ4, e4⟩ : ∃ x, x = ga_up (ga_up (ga_up (ga_up σ3 fS_what s 0 7) fS_thing s 0 (isV σ0 ik nk a i)) fS_other s 0 (isV σ0 ik nk (i + 1) b)) fS_which s 0 (rlV σ0 i) := ⟨_, rfl⟩
              rw [← e4, e_r_saying_204, w32_ok (by omega), w32_ok (by omega)] at e3
              have f4 : fr [fS_what, fS_thing, fS_other, fS_which] σ3 σ4 := by rw [e4]; exact fr_trans (fr_trans (fr_trans (fr_u (by decide)) (fr_u (by decide))) (fr_u (by decide))) (fr_u (by decide))
              have s4 : sKp s σ3 σ4 := by rw [e4]; exact sKp_t (sKp_t (sKp_t (sKp_u _ _ _ _ _) (sKp_u _ _ _ _ _)) (sKp_u _ _ _ _ _)) (sKp_u _ _ _ _ _)
              have K4 := KC_s b3 f4 (by decide) s4 hD
              have row : syRow σ0 ik nk a b s σ4 i := by
                rw [e4]
                refine ⟨?_, ?_, ?_, ?_⟩
                · rw [up_F (by decide), up_F (by decide), up_F (by decide), up_eq]
                · rw [up_F (by decide), up_F (by decide), up_eq]
                · rw [up_F (by decide), up_eq]
                · rw [up_eq]
              obtain ⟨σ', g1, g2, g3, g4, g5, g6⟩ := ih (by omega) (by omega) σ4 (n + 1) K4 (by rw [f4 _ (by decide)]; exact hI3) (by rw [f4 _ (by decide)]; exact hn3) (by omega) (by omega)
              have sL : syL σ0 ik nk a b i = i :: syL σ0 ik nk a b (i + 1) := by
                rw [syL_s hi, sb, q1, q2, if_pos (by decide)]
              have ln : n + ((syL σ0 ik nk a b i).length : Int) = n + 1 + ((syL σ0 ik nk a b (i + 1)).length : Int) := by
                rw [sL, List.length_cons]
                push_cast
                omega
              rw [e3, g1, ln]
              refine ⟨σ', rfl, g2, fr_trans (fr_sub f3 (by decide)) (fr_trans (fr_sub f4 (by decide)) g3), sKp_t (sKp_f f3 (by decide)) (sKp_t s4 g4), fun z => ?_, fun i0 z => ?_⟩
              · rw [sL] at z; cases z
              · rw [sL] at z
                cases hl : syL σ0 ik nk a b (i + 1) with
                | nil =>
                  rw [hl] at z
                  have zi : i = i0 := by simpa using z
                  have k := g5 hl
                  rw [← zi]
                  unfold syRow at row ⊢
                  rw [k _ (by decide), k _ (by decide), k _ (by decide), k _ (by decide)]
                  exact row
                | cons y r =>
                  rw [hl, List.getLast?_cons_cons] at z
                  exact g6 i0 (by rw [hl]; exact z)
theorem k_saying {σ : ga_S} (E : E0 σ0 τ0 f N) {a b ik nk s : Int} (h1 : 0 ≤ a) (h2 : a ≤ b) (h3 : b ≤ N) (hs : 0 ≤ s) (hD : inD σ0 s) (kI : kO σ0 ik) (kN : kO σ0 nk) (K : KC σ0 σ) {c : Int} (hF : FT σ c) (hI : σ fR_itKind 0 0 = ik) (hn : σ fR_nounKind 0 0 = nk) {d : Nat} (hd : 6 ≤ d) : ∃ σ', c_r_saying d σ s a b = some (0, σ') ∧ fr (ntL ++ syF) σ σ' ∧ KC σ0 σ' ∧ sKp s σ σ' ∧ FT σ' (min c (cnC σ0 a (syL σ0 ik nk a b (a + 1)).length)) ∧ (∀ i0, syL σ0 ik nk a b (a + 1) = [i0] → syRow σ0 ik nk a b s σ' i0) := by
  obtain ⟨d, rfl⟩ : ∃ e, d = e + 1 := ⟨d - 1, by omega⟩
  have hN := E.1.2.2.1
  obtain ⟨σ1, g1, g2, g3, g4, g5, g6⟩ := k_saying_l E h1 h3 hs hD kI kN (d := d) (by omega) (a + 1) (by omega) (by omega) σ 0 K hI hn (Int.le_refl _) (by omega)
  have F1 := FT_f hF g3 (by decide)
  have le := FT_le hF
  rw [e_r_saying, w32_ok (by omega), g1, Int.zero_add]
  obtain ⟨l, el⟩ : ∃ x, x = syL σ0 ik nk a b (a + 1) := ⟨_, rfl⟩
  rw [← el] at g6 ⊢
  unfold cnC
  have done : ∀ r why, r = 2 ∨ r = 3 → why = fOf r → l.length ≠ 1 → ∃ σ', r_saying_228 d σ1 a why = some (0, σ') ∧ fr (ntL ++ syF) σ σ' ∧ KC σ0 σ' ∧ sKp s σ σ' ∧ FT σ' (min c (cd σ0 a r)) ∧ (∀ i0, l = [i0] → syRow σ0 ik nk a b s σ' i0) := by
    intro r why hr hw ne
    obtain ⟨σ2, y1, y2, y3⟩ := k_note E.2.1 hN g2 F1 (t := a) (r := r) (why := why) (by omega) (by omega) hw (d := d) (by omega)
    rw [e_r_saying_228, y1]
    exact ⟨σ2, rfl, fr_trans (fr_sub g3 (by decide)) (fr_sub y2 (by decide)), KC_f g2 y2 (by decide), sKp_t g4 (sKp_f y2 (by decide)), y3, fun i0 z => by rw [z] at ne; exact absurd rfl ne⟩
  by_cases c1 : (l.length : Int) = 1
  · rw [if_pos c1, if_pos c1, Int.min_eq_left le]
    refine ⟨σ1, rfl, fr_sub g3 (by decide), g2, g4, F1, fun i0 z => g6 i0 (by rw [z]; rfl)⟩
  · rw [if_neg c1, if_neg c1]
    by_cases c0 : (l.length : Int) = 0
    · rw [if_pos c0, if_pos c0]
      exact done 2 4 (Or.inl rfl) (by decide) (by omega)
    · rw [if_neg c0, if_neg c0]
      exact done 3 7 (Or.inr rfl) (by decide) (by omega)
theorem m_fits {τ : ga_S} (E : E0 σ0 τ0 f N) (K : KM τ0 τ) {ik nk v : Int} (kI : kO σ0 ik) (kN : kO σ0 nk) (hi : τ fM_itKind 0 0 = ik) (hn : τ fM_nounKind 0 0 = nk) (h : v = -1 ∨ thO σ0 ik nk v) (k : Int) {d : Nat} (hd : 2 ≤ d) : c_m_fits d τ (mT v) k = some (b2i (decide (v ≠ -1) && isB (σ0 fW_parents 0) (kdT σ0 ik nk v) k), τ) := by
  obtain ⟨d, rfl⟩ : ∃ e, d = e + 1 := ⟨d - 1, by omega⟩
  have wk := e0_k E
  rw [e_m_fits]
  by_cases c : v = -1
  · rw [if_pos ((mT_9 h).mpr c), decide_eq_false (fun z => z c), Bool.false_and]; rfl
  · have kr := kdT_r E kI kN (h.resolve_left c)
    rw [if_neg (fun z => c ((mT_9 h).mp z)), m_kindOfThing E K hi hn (h.resolve_left c) (by omega)]
    simp only [Option.bind_some]
    rw [s_m_isBelow wk.1 (fun k h0 h1 => by rw [K _ (by decide)]; exact wk.2.2.2.1 k h0 h1) (by omega) _ (by omega) kr.2, decide_eq_true c, Bool.true_and]
    simp only [Option.bind_some]
    cases isB (σ0 fW_parents 0) (kdT σ0 ik nk v) k with
    | false => rw [if_pos b2i_f]; rfl
    | true => rw [if_neg b2i_n]; rfl
def syM : List Nat := [fM_qThing, fM_qOther, fM_qProperty]
theorem m_sayings_l (E : E0 σ0 τ0 f N) {a b ik nk q : Int} (h1 : 0 ≤ a) (h3 : b ≤ N) (hq : 0 ≤ q ∧ q < 2400) (kI : kO σ0 ik) (kN : kO σ0 nk) {d : Nat} (hd : 5 ≤ d) : ∀ i, a < i → i ≤ 5002 → ∀ (τ : ga_S) (n : Int), KM τ0 τ → τ fM_itKind 0 0 = ik → τ fM_nounKind 0 0 = nk → 0 ≤ n → n ≤ i → ∃ τ', m_sayings_8 d τ (f + a) (f + b) q n (f + i) = some (n + (syL σ0 ik nk a b i).length, τ') ∧ KM τ0 τ' ∧ fr syM τ τ' ∧ qKp q τ τ' ∧ (0 < n → τ' = τ) ∧ (n = 0 → ∀ i0, (syL σ0 ik nk a b i).head? = some i0 → syRoM σ0 ik nk a b q τ' i0) := by
  have hf := E.1.1
  have hN := E.1.2.1
  have hN5 := E.1.2.2.1
  have wk := e0_k E
  have wb := e0_b E
  have wr := e0_r E
  refine rg_ind (n := b - 1) (fun i hi hai i5 τ n K hI hn n0 ni => ?_) (fun i hi ih hai i5 τ n K hI hn n0 ni => ?_)
  · rw [e_m_sayings_8, syL_n hi, w32_ok (by omega), if_neg (by omega)]
    simp only [List.length_nil, Int.natCast_zero, Int.add_zero]
    exact ⟨τ, rfl, K, fr_refl _ _, qKp_r _ _, fun _ => rfl, fun _ i0 z => by simp at z⟩
  · have no : m_sayings_8 d τ (f + a) (f + b) q n (f + i) = m_sayings_141 d τ (f + a) (f + b) q n (f + i) → syB σ0 ik nk a b i = false → ∃ τ', m_sayings_8 d τ (f + a) (f + b) q n (f + i) = some (n + (syL σ0 ik nk a b i).length, τ') ∧ KM τ0 τ' ∧ fr syM τ τ' ∧ qKp q τ τ' ∧ (0 < n → τ' = τ) ∧ (n = 0 → ∀ i0, (syL σ0 ik nk a b i).head? = some i0 → syRoM σ0 ik nk a b q τ' i0) := by
      intro e1 hB
      obtain ⟨τ', g1, g2, g3, g4, g5, g6⟩ := ih (by omega) (by omega) τ n K hI hn n0 (by omega)
      have sL : syL σ0 ik nk a b i = syL σ0 ik nk a b (i + 1) := by rw [syL_s hi, hB, if_neg (by decide)]
      rw [e1, e_m_sayings_141, w32_ok (by omega), Int.add_assoc, g1, sL]
      exact ⟨τ', rfl, g2, g3, g4, g5, g6⟩
    have x1 : m_sayings_8 d τ (f + a) (f + b) q n (f + i) = m_sayings_40 d τ (f + a) (f + b) q n (f + i) (rV σ0 i) := by
      have tk : τ0 fM_token 0 (f + i) = 3 ↔ σ0 fT_kinds 0 i = 0 := ENV_is E.1 (k := i) (c := 0) (by omega) (by omega) (by decide)
      rw [e_m_sayings_8, w32_ok (x := f + i + 1) (by omega), if_pos (by omega), ck_ok _ (by omega), K fM_token (by decide)]
      unfold rV
      by_cases c : σ0 fT_kinds 0 i = 0
      · have fB : frB σ0 N i (i + 1) := ⟨by omega, by omega, by omega, fun q y1 y2 => by rw [show q = i by omega]; exact c⟩
        rw [if_pos (tk.mpr c), if_pos c, m_means E K fB rfl (by omega) (by omega), mN_dN (s := 12) (by omega)]
        rfl
      · rw [if_neg (fun z => c (tk.mp z)), if_neg c]
    have rr : rV σ0 i = -1 ∨ (0 ≤ rV σ0 i ∧ rV σ0 i < σ0 fW_verbs 0 0) := by
      unfold rV
      by_cases c : σ0 fT_kinds 0 i = 0
      · rw [if_pos c]
        have := e0_dN E (nmT σ0 i (i + 1)) 12
        have m : mxN σ0 12 = σ0 fW_verbs 0 0 := rfl
        omega
      · rw [if_neg c]; exact Or.inl rfl
    by_cases cv : rV σ0 i = -1
    · refine no ?_ (by unfold syB; rw [decide_eq_false (fun z => z cv)]; simp)
      rw [x1, cv, e_m_sayings_40, if_pos rfl]
    · have vb := wb.2.2.2 (rV σ0 i) (by omega) (by omega)
      have wb2 := wb.2.1
      have wr2 := wr.2.1
      have rA := wr.2.2.2 _ vb.1 vb.2.1
      have vr : τ fM_verbRelation 0 (rV σ0 i) = rlV σ0 i := by rw [K _ (by decide)]; exact vb.2.2
      have rl : 0 ≤ rlV σ0 i ∧ rlV σ0 i < 6 := by unfold rlV; omega
      have rA1 : τ fM_relates 0 (rlV σ0 i) = σ0 fW_relationA 0 (rlV σ0 i) := by rw [K _ (by decide)]; exact rA.1.2.2
      have rA2 : τ fM_relatesTo 0 (rlV σ0 i) = σ0 fW_relationB 0 (rlV σ0 i) := by rw [K _ (by decide)]; exact rA.2.2.2
      have tA := isV_r E ik nk a i
      have tB := isV_r E ik nk (i + 1) b
      have e3 := x1
      rw [e_m_sayings_40, if_neg cv, ck_ok _ (by omega), m_thingOf E K h1 hai (by omega) hI hn (by omega)] at e3
      simp only [Option.bind_some] at e3
      rw [w32_ok (by omega), Int.add_assoc, m_thingOf E K (a := i + 1) (by omega) (by omega) h3 hI hn (by omega)] at e3
      simp only [Option.bind_some] at e3
      rw [vr, ck_ok _ rl, m_fits E K kI kN hI hn tA _ (by omega), rA1] at e3
      simp only [Option.bind_some] at e3
      have sb : syB σ0 ik nk a b i = ((decide (isV σ0 ik nk a i ≠ -1) && isB (σ0 fW_parents 0) (kdT σ0 ik nk (isV σ0 ik nk a i)) (σ0 fW_relationA 0 (rlV σ0 i))) && (decide (isV σ0 ik nk (i + 1) b ≠ -1) && isB (σ0 fW_parents 0) (kdT σ0 ik nk (isV σ0 ik nk (i + 1) b)) (σ0 fW_relationB 0 (rlV σ0 i)))) := by
        unfold syB
        rw [decide_eq_true (p := rV σ0 i ≠ -1) cv]
        cases decide (isV σ0 ik nk a i ≠ -1) <;> cases decide (isV σ0 ik nk (i + 1) b ≠ -1) <;> simp
      cases q1 : (decide (isV σ0 ik nk a i ≠ -1) && isB (σ0 fW_parents 0) (kdT σ0 ik nk (isV σ0 ik nk a i)) (σ0 fW_relationA 0 (rlV σ0 i))) with
      | false =>
        rw [q1, if_pos b2i_f] at e3
        exact no e3 (by rw [sb, q1, Bool.false_and])
      | true =>
        rw [q1, if_neg b2i_n, ck_ok _ rl, m_fits E K kI kN hI hn tB _ (by omega), rA2] at e3
        simp only [Option.bind_some] at e3
        cases q2 : (decide (isV σ0 ik nk (i + 1) b ≠ -1) && isB (σ0 fW_parents 0) (kdT σ0 ik nk (isV σ0 ik nk (i + 1) b)) (σ0 fW_relationB 0 (rlV σ0 i))) with
        | false =>
          rw [q2, if_pos b2i_f] at e3
          exact no e3 (by rw [sb, q2, Bool.and_false])
        | true =>
          rw [q2, if_neg b2i_n] at e3
          have sL : syL σ0 ik nk a b i = i :: syL σ0 ik nk a b (i + 1) := by
            rw [syL_s hi, sb, q1, q2, if_pos (by decide)]
          have ln : n + ((syL σ0 ik nk a b i).length : Int) = n + 1 + ((syL σ0 ik nk a b (i + 1)).length : Int) := by
            rw [sL, List.length_cons]
            push_cast
            omega
          by_cases cn : n = 0
          · obtain ⟨τ4, e4⟩ : ∃ x, x = ga_up (ga_up (ga_up τ fM_qThing 0 q (mT (isV σ0 ik nk a i))) fM_qOther 0 q (mT (isV σ0 ik nk (i + 1) b))) fM_qProperty 0 q (rlV σ0 i) := ⟨_, rfl⟩
            rw [if_pos cn, ck_ok _ hq, ck_ok _ hq, ck_ok _ hq, ← e4, e_m_sayings_138, e_m_sayings_141, w32_ok (by omega), w32_ok (by omega), Int.add_assoc] at e3
            have f4 : fr syM τ τ4 := by rw [e4]; exact fr_trans (fr_trans (fr_u (by decide)) (fr_u (by decide))) (fr_u (by decide))
            have s4 : qKp q τ τ4 := by rw [e4]; exact qKp_t (qKp_t (qKp_u _ _ _ _) (qKp_u _ _ _ _)) (qKp_u _ _ _ _)
            have K4 := KM_f K f4 (by decide)
            have row : syRoM σ0 ik nk a b q τ4 i := by
              rw [e4]
              refine ⟨?_, ?_, ?_⟩
              · rw [up_F (by decide), up_F (by decide), up_eq]
              · rw [up_F (by decide), up_eq]
              · rw [up_eq]
            obtain ⟨τ', g1, g2, g3, g4, g5, g6⟩ := ih (by omega) (by omega) τ4 (n + 1) K4 (by rw [f4 _ (by decide)]; exact hI) (by rw [f4 _ (by decide)]; exact hn) (by omega) (by omega)
            rw [e3, g1, ln]
            refine ⟨τ', rfl, g2, fr_trans f4 g3, qKp_t s4 g4, fun z => by omega, fun _ i0 z => ?_⟩
            rw [sL] at z
            have zi : i = i0 := by simpa using z
            rw [g5 (by omega), ← zi]
            exact row
          · rw [if_neg cn, e_m_sayings_138, e_m_sayings_141, w32_ok (by omega), w32_ok (by omega), Int.add_assoc] at e3
            obtain ⟨τ', g1, g2, g3, g4, g5, g6⟩ := ih (by omega) (by omega) τ (n + 1) K hI hn (by omega) (by omega)
            rw [e3, g1, ln]
            exact ⟨τ', rfl, g2, g3, g4, fun _ => g5 (by omega), fun z => absurd z cn⟩
theorem m_sayings {τ : ga_S} (E : E0 σ0 τ0 f N) {a b ik nk q : Int} (h1 : 0 ≤ a) (h2 : a ≤ b) (h3 : b ≤ N) (hq : 0 ≤ q ∧ q < 2400) (kI : kO σ0 ik) (kN : kO σ0 nk) (K : KM τ0 τ) (hI : τ fM_itKind 0 0 = ik) (hn : τ fM_nounKind 0 0 = nk) {d : Nat} (hd : 6 ≤ d) : ∃ τ', c_m_sayings d τ (f + a) (f + b) q = some (((syL σ0 ik nk a b (a + 1)).length : Int), τ') ∧ KM τ0 τ' ∧ fr syM τ τ' ∧ qKp q τ τ' ∧ (∀ i0, syL σ0 ik nk a b (a + 1) = [i0] → syRoM σ0 ik nk a b q τ' i0) := by
  obtain ⟨d, rfl⟩ : ∃ e, d = e + 1 := ⟨d - 1, by omega⟩
  have hf := E.1.1
  have hN := E.1.2.1
  obtain ⟨τ', g1, g2, g3, g4, g5, g6⟩ := m_sayings_l E h1 h3 hq kI kN (d := d) (by omega) (a + 1) (by omega) (by omega) τ 0 K hI hn (Int.le_refl _) (by omega)
  rw [e_m_sayings, w32_ok (by omega), Int.add_assoc, g1, Int.zero_add]
  exact ⟨τ', rfl, g2, g3, g4, fun i0 z => g6 rfl i0 (by rw [z]; rfl)⟩
end

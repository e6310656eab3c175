/-! texts: what both say of the brackets in them -/
theorem m_put_dry {τ : ga_S} (h : τ fM_isDry 0 0 = 1) {d : Nat} (hd : 1 ≤ d) (x : Int) : c_m_put d τ x = some (0, τ) := by
  obtain ⟨d, rfl⟩ : ∃ e, d = e + 1 := ⟨d - 1, by omega⟩
  rw [e_m_put, h, if_neg (show ¬ (1 : Int) = 0 by decide)]
  split <;> rfl
/-- where a bracket ends -/
def clB (B : Int → Int) (e q : Int) : Int := sk (fun q => decide (B q ≠ 93 ∧ B q ≠ 91)) e q
theorem clB_r (B : Int → Int) (e q : Int) : q ≤ clB B e q ∧ (q ≤ e → clB B e q ≤ e) ∧ (clB B e q < e → B (clB B e q) = 93 ∨ B (clB B e q) = 91) ∧ (∀ j, q ≤ j → j < clB B e q → B j ≠ 93 ∧ B j ≠ 91) := by
  have s := sk_all (f := fun q => decide (B q ≠ 93 ∧ B q ≠ 91)) (n := e) q
  refine ⟨s.1, s.2.1, fun h => ?_, fun j x y => of_decide_eq_true (s.2.2.2 j x y)⟩
  have := of_decide_eq_false (s.2.2.1 h)
  refine Classical.byContradiction fun v => this ⟨fun u => v (Or.inl u), fun u => v (Or.inr u)⟩
theorem k_close {σ : ga_S} {d : Nat} {e p : Int} {B : Int → Int} (hB : σ fT_bytes 0 = B) (he : e ≤ 5000) : ∀ q, 0 ≤ q → r_isSaid_39 d σ e p q = r_isSaid_81 d σ e p (clB B e q) := by
  refine pos_ind e fun q ih h0 => ?_
  rw [e_r_isSaid_39, hB]
  unfold clB
  by_cases y : q < e
  · rw [if_pos y, ck_ok _ (by omega)]
    by_cases z : B q = 93
    · rw [if_pos z, sk_x y (decide_eq_false (fun v => v.1 z))]
    · rw [if_neg z, ck_ok _ (by omega)]
      by_cases w : B q = 91
      · rw [if_pos w, sk_x y (decide_eq_false (fun v => v.2 w))]
      · rw [if_neg w, w32_ok (by omega), ih (q + 1) (by omega) y (by omega), sk_s (f := fun q => decide (B q ≠ 93 ∧ B q ≠ 91)) y (decide_eq_true ⟨z, w⟩)]; rfl
  · rw [if_neg y, sk_n (by omega)]
/-- how many tokens are in brackets -/
noncomputable def brM (B : Int → Int) (c a : Int) : Nat := Classical.epsilon (fun M => brN B c a M)
theorem brM_ok {B : Int → Int} {c a : Int} {M : Nat} (h : brN B c a M) : brN B c a (brM B c a) := Classical.epsilon_spec (p := fun M => brN B c a M) ⟨M, h⟩
/-- whether what is in brackets may be said -/
noncomputable def brB (σ0 : ga_S) (B : Int → Int) (nk c a : Int) : Bool := decide (sK B true c a (brM B c a) = 8) && brV σ0 (kx B c a) (nx B c a) nk (brM B c a)
/-- whether a text may be said -/
noncomputable def sdV (σ0 : ga_S) (B : Int → Int) (nk e : Int) : Nat → Int → Bool
  | 0, _ => true
  | n + 1, p => if p < e then (if B p = 93 then false else if B p = 91 then (if clB B e (p + 1) = e ∨ B (clB B e (p + 1)) = 91 then false else brB σ0 B nk (clB B e (p + 1)) (p + 1) && sdV σ0 B nk e n (clB B e (p + 1) + 1)) else sdV σ0 B nk e n (p + 1)) else true
section
variable {σ0 τ0 : ga_S} {f : Int} {N : Nat}
theorem brM_E (E : E0 σ0 τ0 f N) (I : IN σ0) {c a : Int} (ha : 0 ≤ a) (hac : a ≤ c) (hc : c ≤ σ0 fT_size 0 0) : brN (σ0 fT_bytes 0) c a (brM (σ0 fT_bytes 0) c a) := by
  have sz := E.2.1.1.1
  obtain ⟨σ1, M, x1, x2, x3, x4, x5, x6, x7, x8, x9⟩ := s_t_inside (σ := σ0) (d := 4) (Nat.le_refl _) (v := 1) (a := a) (n := c) (by decide) I.2.1 I.2.2.1 ha hac (by omega)
  rw [I.2.2.2.1] at x6 x7
  exact brM_ok (M := M) ⟨x6, x7⟩
theorem k_said {nk : Int} (E : E0 σ0 τ0 f N) (I : IN σ0) (kN : kO σ0 nk) {e : Int} (he : e ≤ σ0 fT_size 0 0) {d : Nat} (hd : 5 ≤ d) : ∀ (n : Nat) (p : Int), 0 ≤ p → e - p ≤ n → ∀ σ, KC σ0 σ → σ fR_nounKind 0 0 = nk → ∃ σ', r_isSaid_2 d σ e p = some (b2i (sdV σ0 (σ0 fT_bytes 0) nk e n p), σ') ∧ fr bkL σ σ' ∧ KC σ0 σ' := by
  have sz := E.2.1.1.1
  obtain ⟨B, eB⟩ : ∃ z, z = σ0 fT_bytes 0 := ⟨_, rfl⟩
  intro n
  induction n with
  | zero =>
    intro p h0 hp σ K hn
    rw [e_r_isSaid_2, if_neg (by omega)]
    exact ⟨σ, rfl, fr_refl _ _, K⟩
  | succ n ih =>
    intro p h0 hp σ K hn
    have b1 : σ fT_bytes 0 = B := by rw [K.1 _ (by decide), eB]
    rw [← eB] at ih ⊢
    have go : ∀ σ1 q, fr bkL σ σ1 → KC σ0 σ1 → p ≤ q → q < e → ∃ σ', r_isSaid_119 d σ1 e q = some (b2i (sdV σ0 B nk e n (q + 1)), σ') ∧ fr bkL σ σ' ∧ KC σ0 σ' := by
      intro σ1 q f1 K1 hq hq2
      obtain ⟨σ2, y1, y2, y3⟩ := ih (q + 1) (by omega) (by push_cast at hp; omega) σ1 K1 (by rw [f1 _ (by decide)]; exact hn)
      rw [e_r_isSaid_119, w32_ok (by omega)]
      exact ⟨σ2, y1, fr_trans f1 y2, y3⟩
    rw [e_r_isSaid_2, b1]
    unfold sdV
    by_cases y : p < e
    · rw [if_pos y, if_pos y, ck_ok _ (by omega)]
      by_cases z : B p = 93
      · rw [if_pos z, if_pos z]
        exact ⟨σ, rfl, fr_refl _ _, K⟩
      · rw [if_neg z, if_neg z]
        by_cases w : B p = 91
        · have cr := clB_r B e (p + 1)
          rw [if_pos w, if_pos w, w32_ok (by omega), k_close b1 (by omega) (p + 1) (by omega), e_r_isSaid_81, b1]
          obtain ⟨c, ec⟩ : ∃ z, z = clB B e (p + 1) := ⟨_, rfl⟩
          rw [← ec] at cr ⊢
          have ce := cr.2.1 (by omega)
          by_cases c1 : c = e
          · rw [if_pos c1, if_pos (Or.inl c1)]
            exact ⟨σ, rfl, fr_refl _ _, K⟩
          · rw [if_neg c1, ck_ok _ (by omega)]
            by_cases c2 : B c = 91
            · rw [if_pos c2, if_pos (Or.inr c2)]
              exact ⟨σ, rfl, fr_refl _ _, K⟩
            · have hM := brM_E E I (c := c) (a := p + 1) (by omega) (by omega) (by omega)
              obtain ⟨σ1, y1, y2, y3⟩ := k_isBracket E I K (a := p + 1) (c := c) (by omega) (by omega) (by omega) hM rfl hn kN (d := d) hd
              rw [if_neg c2, if_neg (fun v => v.elim c1 c2), w32_ok (by omega), y1]
              simp only [Option.bind_some]
              rw [← eB]
              have eb : (decide (sK B true c (p + 1) (brM B c (p + 1)) = 8) && brV σ0 (kx B c (p + 1)) (nx B c (p + 1)) nk (brM B c (p + 1))) = brB σ0 B nk c (p + 1) := rfl
              rw [eb]
              cases brB σ0 B nk c (p + 1) with
              | false =>
                rw [if_pos b2i_f, Bool.false_and]
                exact ⟨σ1, rfl, y2, y3⟩
              | true =>
                rw [if_neg b2i_n, Bool.true_and]
                exact go σ1 c y2 y3 (by omega) (by omega)
        · rw [if_neg w, if_neg w]
          exact go σ p (fr_refl _ _) K (Int.le_refl _) y
    · rw [if_neg y, if_neg y]
      exact ⟨σ, rfl, fr_refl _ _, K⟩
theorem okW_n {B : Int → Int} {nk c a : Int} {M : Nat} (hN : brN B c a M) (h : ¬ okW B c a M 0) : (decide (sK B true c a M = 8) && brV σ0 (kx B c a) (nx B c a) nk M) = false := by
  by_cases s8 : sK B true c a M = 8
  · obtain ⟨j, h1, h2⟩ : ∃ j, j < M ∧ ¬ (sK B true c a j = 0 ∨ 9 ≤ sK B true c a j) := Classical.byContradiction fun g => h ⟨s8, fun j _ hj => Classical.byContradiction fun u => g ⟨j, hj, u⟩⟩
    have ej : kx B c a (j : Int) = sK B true c a j := by unfold kx; rw [show ((j : Int)).toNat = j by omega]
    rw [brV_no (j := (j : Int)) (by omega) (by omega) (by rw [ej]; omega) (by rw [ej]; omega), Bool.and_false]
  · rw [decide_eq_false s8, Bool.false_and]
theorem m_said {nk : Int} (E : E0 σ0 τ0 f N) (I : IN σ0) (hk : rKeys τ0) (eS : τ0 fM_story 0 = σ0 fT_bytes 0) (kN : kO σ0 nk) {e p0 : Int} (he : e ≤ σ0 fT_size 0 0) (h00 : 0 ≤ p0) (hl : e - p0 ≤ 120) (hT : txB (σ0 fT_bytes 0) p0 e) {d : Nat} (hd : 5 ≤ d) : ∀ (n : Nat) (p : Int), p0 ≤ p → e - p ≤ n → ∀ τ, KM τ0 τ → τ fM_isDry 0 0 = 1 → τ fM_nounKind 0 0 = nk → ∃ τ', m_written_7 d τ p e = some (b2i (sdV σ0 (σ0 fT_bytes 0) nk e n p), τ') ∧ fr inM τ τ' := by
  obtain ⟨d, rfl⟩ : ∃ e, d = e + 1 := ⟨d - 1, by omega⟩
  have sz := E.2.1.1.1
  obtain ⟨B, eB⟩ : ∃ z, z = σ0 fT_bytes 0 := ⟨_, rfl⟩
  intro n
  induction n with
  | zero =>
    intro p h0 hp τ K hy hn
    rw [e_m_written_7, if_neg (by omega)]
    exact ⟨τ, rfl, fr_refl _ _⟩
  | succ n ih =>
    intro p h0 hp τ K hy hn
    have b1 : τ fM_story 0 = B := by rw [K _ (by decide), eS, eB]
    rw [← eB] at ih hT ⊢
    have go : ∀ τ1 q, fr inM τ τ1 → p ≤ q → q < e → ∃ τ', m_written_7 (d + 1) τ1 (q + 1) e = some (b2i (sdV σ0 B nk e n (q + 1)), τ') ∧ fr inM τ τ' := by
      intro τ1 q f1 hq hq2
      obtain ⟨τ2, y1, y2⟩ := ih (q + 1) (by omega) (by push_cast at hp; omega) τ1 (KM_f K f1 (by decide)) (by rw [f1 _ (by decide)]; exact hy) (by rw [f1 _ (by decide)]; exact hn)
      exact ⟨τ2, y1, fr_trans f1 y2⟩
    rw [e_m_written_7, b1]
    unfold sdV
    by_cases y : p < e
    · rw [if_pos y, if_pos y, ck_ok _ (by omega)]
      by_cases z : B p = 93
      · rw [if_pos z, if_pos z]
        exact ⟨τ, rfl, fr_refl _ _⟩
      · rw [if_neg z, if_neg z, ck_ok _ (by omega)]
        by_cases w : B p = 91
        · have cr := clB_r B e (p + 1)
          obtain ⟨τ1, e1⟩ : ∃ x, x = ga_up τ fM_insides 0 0 0 := ⟨_, rfl⟩
          have f1 : fr inM τ τ1 := by rw [e1]; exact fr_u (by decide)
          have b2 : τ1 fM_story 0 = B := by rw [f1 _ (by decide)]; exact b1
          have i1 : τ1 fM_insides 0 0 = 0 := by rw [e1, up_eq]
          rw [if_pos w, if_pos w, w32_ok (by omega), e_m_words, ← e1]
          obtain ⟨c, ec⟩ : ∃ z, z = clB B e (p + 1) := ⟨_, rfl⟩
          rw [← ec] at cr ⊢
          have ce := cr.2.1 (by omega)
          by_cases c1 : c = e ∨ B c = 91
          · obtain ⟨τ2, g1, g2⟩ := m_words_no (e := e) (c := c) (B := B) (d := d) (by omega) (by omega) ce c1 (p + 1) (by omega) cr.1 cr.2.2.2 τ1 b2 (by omega)
            rw [g1, if_pos c1]
            simp only [Option.bind_some]
            rw [if_pos (by trivial)]
            exact ⟨τ2, rfl, fr_trans f1 g2⟩
          · have c2 : c < e := by
              have : c ≠ e := fun v => c1 (Or.inl v)
              omega
            have c3 : B c = 93 := (cr.2.2.1 c2).resolve_right (fun v => c1 (Or.inr v))
            have hM := brM_E E I (c := c) (a := p + 1) (by omega) (by omega) (by omega)
            rw [← eB] at hM
            rw [if_neg c1]
            have eb : brB σ0 B nk c (p + 1) = (decide (sK B true c (p + 1) (brM B c (p + 1)) = 8) && brV σ0 (kx B c (p + 1)) (nx B c (p + 1)) nk (brM B c (p + 1))) := rfl
            obtain ⟨M, eM⟩ : ∃ z, z = brM B c (p + 1) := ⟨_, rfl⟩
            rw [← eM] at eb hM
            obtain ⟨τ2, v1, v2, v3⟩ := m_words_in (e := e) (c := c) (a := p + 1) (B := B) (M := M) (d := d) (by omega) (by omega) c2 c3 (by omega) (by omega) (fun q x1 x2 => hT q (by omega) (by omega)) (fun q x1 x2 => cr.2.2.2 q x1 x2) hM (p + 1) (Int.le_refl _) cr.1 0 (Nat.zero_le _) rfl (fun j hj => absurd hj (by omega)) τ1 b2 (by rw [i1]; rfl) (fun j hj => absurd hj (by omega))
            have f2 : fr inM τ τ2 := fr_trans f1 v1
            by_cases ok : okW B c (p + 1) M 0
            · obtain ⟨u1, u2, u3⟩ := v2 ok
              have m64 : (M : Int) ≤ 64 := by
                by_cases m0 : M = 0
                · omega
                · have s2 := sP_2 (B := B) (c := c) (a := p + 1) (by omega) (M - 1) (fun j hj => ok.2 j (Nat.zero_le _) (by omega))
                  have s3 := (sP_r (B := B) (x := true) (n := c) (a := p + 1) (by omega) (M - 1)).2.1
                  omega
              have wi := WI_of ok m64 u2 u3
              have K2 := KM_f K f2 (by decide)
              have hk2 : rKeys τ2 := fun j x1 x2 => by rw [K2 _ (by decide)]; exact hk j x1 x2
              have sa := m_saysInside E K2 hk2 wi (nk := nk) (by rw [f2 _ (by decide)]; exact hy) (by rw [f2 _ (by decide)]; exact hn) kN (d := d + 1) (by omega)
              rw [u1]
              simp only [Option.bind_some]
              rw [if_neg (by omega), sa]
              simp only [Option.bind_some]
              rw [eb, decide_eq_true ok.1, Bool.true_and]
              cases brV σ0 (kx B c (p + 1)) (nx B c (p + 1)) nk M with
              | false =>
                rw [if_pos b2i_f, Bool.false_and]
                exact ⟨τ2, rfl, f2⟩
              | true =>
                rw [if_neg b2i_n, Bool.true_and]
                exact go τ2 c f2 (by omega) (by omega)
            · rw [v3 ok, eb, okW_n hM ok, Bool.false_and]
              simp only [Option.bind_some]
              rw [if_pos (by trivial)]
              exact ⟨τ2, rfl, f2⟩
        · rw [if_neg w, if_neg w, ck_ok _ (by omega), m_put_dry hy (by omega)]
          simp only [Option.bind_some]
          rw [w32_ok (by omega)]
          exact go τ p (fr_refl _ _) (Int.le_refl _) y
    · rw [if_neg y, if_neg y]
      exact ⟨τ, rfl, fr_refl _ _⟩
/-- a text's check, component -/
theorem k_isSaid {nk : Int} (E : E0 σ0 τ0 f N) (I : IN σ0) (kN : kO σ0 nk) {p e : Int} (he : e ≤ σ0 fT_size 0 0) (h0 : 0 ≤ p) {σ : ga_S} (K : KC σ0 σ) (hn : σ fR_nounKind 0 0 = nk) {d : Nat} (hd : 6 ≤ d) : ∃ σ', c_r_isSaid d σ p e = some (b2i (sdV σ0 (σ0 fT_bytes 0) nk e (e - p).toNat p), σ') ∧ fr bkL σ σ' ∧ KC σ0 σ' := by
  obtain ⟨d, rfl⟩ : ∃ e, d = e + 1 := ⟨d - 1, by omega⟩
  rw [e_r_isSaid]
  exact k_said E I kN he (by omega) (e - p).toNat p h0 (by omega) σ K hn
def saM : List Nat := [fM_isDry, fM_nounObject, fM_inside, fM_insides]
theorem m_says {nk : Int} (E : E0 σ0 τ0 f N) (I : IN σ0) (hk : rKeys τ0) (eS : τ0 fM_story 0 = σ0 fT_bytes 0) (kN : kO σ0 nk) {p e n o : Int} (he : e ≤ σ0 fT_size 0 0) (h0 : 0 ≤ p) (hn0 : 0 ≤ n) (hn : e = p + n) (hl : n ≤ 120) (hT : txB (σ0 fT_bytes 0) p e) {τ : ga_S} (K : KM τ0 τ) (hN : τ fM_nounKind 0 0 = nk) {d : Nat} (hd : 7 ≤ d) : ∃ τ', c_m_says d τ p n o = some (b2i (sdV σ0 (σ0 fT_bytes 0) nk e (e - p).toNat p), τ') ∧ fr saM τ τ' ∧ τ' fM_isDry 0 0 = 0 ∧ KM τ0 τ' := by
  obtain ⟨d, rfl⟩ : ∃ e, d = e + 2 := ⟨d - 2, by omega⟩
  have sz := E.2.1.1.1
  obtain ⟨τ1, e1⟩ : ∃ x, x = ga_up (ga_up τ fM_isDry 0 0 1) fM_nounObject 0 0 o := ⟨_, rfl⟩
  have f1 : fr saM τ τ1 := by rw [e1]; exact fr_trans (fr_u (by decide)) (fr_u (by decide))
  obtain ⟨τ2, g1, g2⟩ := m_said E I hk eS kN he h0 (by omega) hT (d := d) (by omega) (e - p).toNat p (Int.le_refl _) (by omega) τ1 (KM_f K f1 (by decide)) (by rw [e1, up_F (by decide), up_eq]) (by rw [f1 _ (by decide)]; exact hN)
  rw [e_m_says, e_m_written, ← e1, w32_ok (by omega), ← hn, g1]
  simp only [Option.bind_some]
  rw [z1_ok _ (b2i_01 _)]
  have f3 : fr saM τ (ga_up τ2 fM_isDry 0 0 0) := fr_trans f1 (fr_trans (fr_sub g2 (by decide)) (fr_u (by decide)))
  exact ⟨_, rfl, f3, up_eq _ _ _ _ _, KM_f K f3 (by decide)⟩
end

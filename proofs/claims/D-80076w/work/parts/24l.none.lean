/-! a sentence that tells nothing -/
theorem oF_cd {k : Int} (hk : 0 ≤ k ∧ k < 64) : oF k = true ↔ (cdM k = 3 ∨ (100 ≤ cdM k ∧ cdM k ≤ 103) ∨ cdM k = 116 ∨ cdM k = 44) := by
  have a := cdM_art hk
  have b := cdM_inj hk (b := 0) (by decide)
  have c := cdM_inj hk (b := 25) (by decide)
  have e := cdM_inj hk (b := 4) (by decide)
  rw [show cdM 0 = 3 from rfl] at b
  rw [show cdM 25 = 116 from rfl] at c
  rw [show cdM 4 = 44 from rfl] at e
  rw [a, b, c, e]
  exact ⟨fun h => of_decide_eq_true h, fun h => decide_eq_true h⟩
theorem s_m_ot_168 {σ τ : ga_S} {f : Int} {N : Nat} (hE : ENV σ τ f N) {d : Nat} (hd : 1 ≤ d) (hb : τ fM_isBad 0 0 = 0) (t : Int) : ∀ (n : Nat) (p : Int), 0 ≤ p → p + n = N → m_others_168 d (ga_up τ fM_at 0 0 (f + p)) t (cdM (σ fT_kinds 0 p)) = if f + sk (fun q => oF (σ fT_kinds 0 q)) N p = t then (c_m_odd d (ga_up τ fM_at 0 0 (f + sk (fun q => oF (σ fT_kinds 0 q)) N p))).bind (fun q => some (0, q.2)) else some (0, ga_up τ fM_at 0 0 (f + sk (fun q => oF (σ fT_kinds 0 q)) N p)) := by
  have hf := hE.1
  have hN := hE.2.1
  have hN5 := hE.2.2.1
  have exit : ∀ p : Int, 0 ≤ p → p ≤ N → oF (σ fT_kinds 0 p) = false → m_others_168 d (ga_up τ fM_at 0 0 (f + p)) t (cdM (σ fT_kinds 0 p)) = if f + p = t then (c_m_odd d (ga_up τ fM_at 0 0 (f + p))).bind (fun q => some (0, q.2)) else some (0, ga_up τ fM_at 0 0 (f + p)) := by
    intro p h0 hp hn
    have K := hE.2.2.2.1 p h0 hp
    have no : ¬ (cdM (σ fT_kinds 0 p) = 3 ∨ (100 ≤ cdM (σ fT_kinds 0 p) ∧ cdM (σ fT_kinds 0 p) ≤ 103) ∨ cdM (σ fT_kinds 0 p) = 116 ∨ cdM (σ fT_kinds 0 p) = 44) := fun z => by
      have := (oF_cd ⟨K.1, K.2.1⟩).mpr z
      rw [hn] at this; cases this
    rw [e_m_others_168, if_neg (fun z => no (Or.inl z)), s_m_isArt hd, decide_eq_false (fun z => no (Or.inr (Or.inl z)))]
    simp only [Option.bind_some]
    rw [if_pos b2i_f, if_neg (fun z => no (Or.inr (Or.inr (Or.inl z)))), if_neg (fun z => no (Or.inr (Or.inr (Or.inr z)))), up_eq]
  intro n
  induction n with
  | zero =>
    intro p h0 hp
    have e : p = N := by omega
    have no : oF (σ fT_kinds 0 p) = false := by
      rw [e]
      rcases hE.2.2.2.2.1 with z | z <;> rw [z] <;> decide
    rw [sk_n (by omega)]
    exact exit p h0 (by omega) no
  | succ n ih =>
    intro p h0 hp
    have K := hE.2.2.2.1 p h0 (by omega)
    cases hO : oF (σ fT_kinds 0 p) with
    | false =>
      rw [sk_x (f := fun q => oF (σ fT_kinds 0 q)) (by omega) hO]
      exact exit p h0 (by omega) hO
    | true =>
      have yes : m_others_192 d (ga_up τ fM_at 0 0 (f + p)) t = if f + sk (fun q => oF (σ fT_kinds 0 q)) N p = t then (c_m_odd d (ga_up τ fM_at 0 0 (f + sk (fun q => oF (σ fT_kinds 0 q)) N p))).bind (fun q => some (0, q.2)) else some (0, ga_up τ fM_at 0 0 (f + sk (fun q => oF (σ fT_kinds 0 q)) N p)) := by
        have K1 := hE.2.2.2.1 (p + 1) (by omega) (by omega)
        rw [e_m_others_192, up_eq, w32_ok (by omega), up_up, show f + p + 1 = f + (p + 1) from by omega]
        have lk : c_m_look d (ga_up τ fM_at 0 0 (f + (p + 1))) = some (cdM (σ fT_kinds 0 (p + 1)), ga_up τ fM_at 0 0 (f + (p + 1))) := by
          obtain ⟨d, rfl⟩ : ∃ e, d = e + 1 := ⟨d - 1, by omega⟩
          rw [e_m_look, up_F (F' := fM_isBad) (by decide), if_pos hb, up_eq, ck_ok _ (by omega), up_F (F' := fM_token) (by decide), K1.2.2]
        rw [lk]
        simp only [Option.bind_some]
        rw [ih (p + 1) (by omega) (by omega), sk_s (f := fun q => oF (σ fT_kinds 0 q)) (by omega) hO]
      have o := (oF_cd ⟨K.1, K.2.1⟩).mp hO
      rw [e_m_others_168]
      by_cases c3 : cdM (σ fT_kinds 0 p) = 3
      · rw [if_pos c3]; exact yes
      · rw [if_neg c3, s_m_isArt hd]
        simp only [Option.bind_some]
        by_cases ca : 100 ≤ cdM (σ fT_kinds 0 p) ∧ cdM (σ fT_kinds 0 p) ≤ 103
        · rw [decide_eq_true ca, if_neg b2i_n]; exact yes
        · rw [decide_eq_false ca, if_pos b2i_f]
          by_cases c116 : cdM (σ fT_kinds 0 p) = 116
          · rw [if_pos c116]; exact yes
          · rw [if_neg c116, if_pos (by omega)]; exact yes
theorem P_none {σ τ : ga_S} {f : Int} {N : Nat} (hE : ENV σ τ f N) (hP : PR σ τ f N) (hJ : 2 * τ fM_runs 0 0 ≤ 5001) (hb : σ fR_bad 0 0 = -1) (hp : σ fR_p 0 0 = 0) {d : Nat} (hd : 1 ≤ d) : ∃ σ' τ', r_otherShape_235 d σ N = some (0, σ') ∧ c_m_others (d + 1) τ 0 = some (0, τ') ∧ PG σ' τ' f N ∧ fr [fR_sort, fR_p, fR_bad] σ σ' ∧ fr (fM_sort :: pmL) τ τ' ∧ σ' fR_sort 0 0 = 20 ∧ τ' fM_sort 0 0 = 20 ∧ (σ' fR_bad 0 0 = -1 → 1 ≤ (N : Int)) := by
  have hf := hE.1
  have hN := hE.2.1
  have hN5 := hE.2.2.1
  have ok := PR_ok hP hb
  rw [hp] at ok
  have a0 : τ fM_at 0 0 = f := by omega
  obtain ⟨σ1, e1⟩ : ∃ x, x = ga_up σ fR_sort 0 0 20 := ⟨_, rfl⟩
  obtain ⟨τ1, e2⟩ : ∃ x, x = ga_up τ fM_sort 0 0 20 := ⟨_, rfl⟩
  have f1 : fr [fR_sort] σ σ1 := by rw [e1]; exact fr_u (by decide)
  have g1 : fr [fM_sort] τ τ1 := by rw [e2]; exact fr_u (by decide)
  have E1 : ENV σ1 τ1 f N := ENV_c hE (f1 _ (by decide)) (g1 _ (by decide))
  have P1 : PR σ1 τ1 f N := PR_c hP (f1 _ (by decide)) (f1 _ (by decide)) (g1 _ (by decide)) (g1 _ (by decide)) (g1 _ (by decide))
  have b1 : σ1 fR_bad 0 0 = -1 := by rw [f1 _ (by decide)]; exact hb
  have p1 : σ1 fR_p 0 0 = 0 := by rw [f1 _ (by decide)]; exact hp
  have i1 : τ1 fM_isBad 0 0 = 0 := by rw [g1 _ (by decide)]; exact ok.1
  have a1 : τ1 fM_at 0 0 = f := by rw [g1 _ (by decide)]; exact a0
  have c1 := s_r_os_241 (σ := σ1) (d := d) hd (b := N) (by omega) (fun q h1 h2 => (E1.2.2.2.1 q h1 (by omega)).1) N 0 (by omega) (by omega)
  have m1 := s_m_ot_168 E1 hd i1 f N 0 (by omega) (by omega)
  rw [up_id (F := fR_p) (σ := σ1) p1] at c1
  rw [up_id (F := fM_at) (σ := τ1) (v := f + 0) (by omega)] at m1
  have A := sk_all (f := fun q => oF (σ1 fT_kinds 0 q)) (n := (N : Int)) 0
  obtain ⟨e, ee⟩ : ∃ e, e = sk (fun q => oF (σ1 fT_kinds 0 q)) N 0 := ⟨_, rfl⟩
  rw [← ee] at c1 m1 A
  have eN := A.2.1 (by omega)
  have e0 := A.1
  have cc : r_otherShape_235 d σ N = r_otherShape_319 d (ga_up σ1 fR_p 0 0 e) N := by rw [e_r_otherShape_235, ← e1, c1]
  have mm : c_m_others (d + 1) τ 0 = if f + e = f then (c_m_odd d (ga_up τ1 fM_at 0 0 (f + e))).bind (fun q => some (0, q.2)) else some (0, ga_up τ1 fM_at 0 0 (f + e)) := by
    rw [e_m_others, if_neg (by decide), if_neg (by decide), if_neg (by decide), ← e2, s_m_look E1 P1 hd, if_pos b1, p1]
    simp only [Option.bind_some]
    rw [a0]
    exact m1
  rw [cc, mm, e_r_otherShape_319]
  have fs : fr [fR_sort, fR_p, fR_bad] σ (ga_up σ1 fR_p 0 0 e) := fr_trans (fr_sub f1 (by decide)) (fr_u (by decide))
  have gs : fr (fM_sort :: pmL) τ (ga_up τ1 fM_at 0 0 (f + e)) := fr_trans (fr_sub g1 (by decide)) (fr_u (by decide))
  have s1 : (ga_up σ1 fR_p 0 0 e) fR_sort 0 0 = 20 := by rw [up_F (by decide), e1, up_eq]
  have t1 : (ga_up τ1 fM_at 0 0 (f + e)) fM_sort 0 0 = 20 := by rw [up_F (by decide), e2, up_eq]
  by_cases c0 : (N : Int) = 0
  · have z : e = 0 := by omega
    rw [if_pos c0, if_pos (by omega), s_r_wrong hd, s_m_odd hd, up_F (F' := fR_bad) (by decide), if_pos b1, up_F (F' := fM_isBad) (by decide), if_pos i1, up_eq, up_eq]
    simp only [Option.bind_some]
    refine ⟨_, _, rfl, rfl, Or.inr (Or.inl ⟨?_, ?_, ?_, ?_⟩), fr_trans fs (fr_u (by decide)), fr_trans (fr_trans gs (fr_u (by decide))) (fr_u (by decide)), ?_, ?_, fun z => by rw [up_eq] at z; omega⟩
    · rw [up_eq]; exact e0
    · rw [up_eq]; exact eN
    · rw [up_F (by decide), up_eq]
    · rw [up_eq, up_eq]
    · rw [up_F (by decide)]; exact s1
    · rw [up_F (by decide), up_F (by decide)]; exact t1
  · rw [if_neg c0]
    by_cases ce : e = 0
    · rw [if_pos (by omega), s_m_odd hd, up_F (F' := fM_isBad) (by decide), if_pos i1, up_eq]
      simp only [Option.bind_some]
      refine ⟨_, _, rfl, rfl, Or.inr (Or.inr ⟨?_, ?_, ?_, ?_, ?_, ?_⟩), fs, fr_trans (fr_trans gs (fr_u (by decide))) (fr_u (by decide)), s1, ?_, fun _ => by omega⟩
      · rw [up_F (by decide)]; exact b1
      · rw [up_eq]; exact e0
      · rw [up_eq]; exact eN
      · rw [up_eq, up_F (by decide), ce]
        exact (E1.2.2.2.2.2 0 (by omega) (by omega)).1
      · rw [up_F (by decide), up_eq]
      · rw [up_eq, up_eq]
      · rw [up_F (by decide), up_F (by decide)]; exact t1
    · rw [if_neg (by omega)]
      refine ⟨_, _, rfl, rfl, Or.inl ⟨?_, ?_, ?_, ?_, ?_, by rw [gs _ (by decide)]; exact hJ⟩, fs, gs, s1, t1, fun _ => by omega⟩
      · rw [up_F (by decide)]; exact b1
      · rw [up_F (by decide)]; exact i1
      · rw [up_eq]; exact e0
      · rw [up_eq]; exact eN
      · rw [up_eq, up_eq]

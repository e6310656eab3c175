/-! what stands behind a list and be -/
theorem fr_no {L : List Nat} {s s' : ga_S} (h : fr L s s') {M : List Nat} (hm : M.all (fun F => !(L.contains F)) = true) {F : Nat} (hF : F ∈ M) : s' F = s F := h F (mem_no hm F hF)
/-- stores with other fields changed, and places moved on -/
theorem ST_mv {σ τ σ' τ' : ga_S} {f : Int} {N : Nat} (hE : ENV σ τ f N) (hP : PR σ τ f N) (hJ : JR σ τ) (hb : σ fR_bad 0 0 = -1) {n : Int} (hn : 0 ≤ n) (hN : σ fR_p 0 0 + n ≤ N) {LC LM : List Nat} (h1 : fr LC σ σ') (h2 : fr LM τ τ') (hc : [fR_bad, fR_runs, fT_kinds].all (fun F => !(LC.contains F)) = true) (hm : [fM_isBad, fM_badAt, fM_runs, fM_token].all (fun F => !(LM.contains F)) = true) (hp : σ' fR_p 0 0 = σ fR_p 0 0 + n) (ha : τ' fM_at 0 0 = τ fM_at 0 0 + n) : ENV σ' τ' f N ∧ PR σ' τ' f N ∧ JR σ' τ' := by
  have ok := PR_ok hP hb
  have b' : σ' fR_bad 0 0 = -1 := by rw [fr_no h1 hc (F := fR_bad) (by decide)]; exact hb
  have i' : τ' fM_isBad 0 0 = 0 := by rw [fr_no h2 hm (F := fM_isBad) (by decide)]; exact ok.1
  have k' : σ' fT_kinds = σ fT_kinds := fr_no h1 hc (F := fT_kinds) (by decide)
  refine ⟨ENV_c hE k' (fr_no h2 hm (F := fM_token) (by decide)), ⟨⟨by omega, by omega, by omega, by omega⟩, Or.inl ⟨b', i', by omega, by omega, by omega⟩⟩, ?_⟩
  refine JR_mv hJ (by rw [fr_no h1 hc (F := fR_runs) (by decide)]) (by rw [fr_no h2 hm (F := fM_runs) (by decide)]) k' (fun _ => ⟨hb, ?_⟩)
  by_cases c : n = 0
  · left; omega
  · right; omega
/-- the end of a sentence comes -/
def PG (σ τ : ga_S) (f : Int) (N : Nat) : Prop := (σ fR_bad 0 0 = -1 ∧ τ fM_isBad 0 0 = 0 ∧ 0 ≤ σ fR_p 0 0 ∧ σ fR_p 0 0 ≤ N ∧ τ fM_at 0 0 = f + σ fR_p 0 0 ∧ 2 * τ fM_runs 0 0 ≤ 5001) ∨ (0 ≤ σ fR_bad 0 0 ∧ σ fR_bad 0 0 ≤ N ∧ τ fM_isBad 0 0 = 1 ∧ τ fM_badAt 0 0 = f + σ fR_bad 0 0) ∨ (σ fR_bad 0 0 = -1 ∧ 0 ≤ σ fR_p 0 0 ∧ σ fR_p 0 0 ≤ N ∧ σ fT_kinds 0 (σ fR_p 0 0) ≠ 3 ∧ τ fM_isBad 0 0 = 1 ∧ τ fM_badAt 0 0 = f + σ fR_p 0 0)
theorem PG_R {σ τ : ga_S} {f : Int} {N : Nat} (h : PR σ τ f N) (J : σ fR_bad 0 0 = -1 → τ fM_isBad 0 0 = 0 → 2 * τ fM_runs 0 0 ≤ 5001) : PG σ τ f N := by
  rcases h.2 with g | g
  · exact Or.inl ⟨g.1, g.2.1, g.2.2.1, g.2.2.2.1, g.2.2.2.2, J g.1 g.2.1⟩
  · exact Or.inr (Or.inl g)
theorem PG_E {σ τ : ga_S} {f : Int} {N : Nat} (h : PE σ τ f N) (J : σ fR_bad 0 0 = -1 → τ fM_isBad 0 0 = 0 → 2 * τ fM_runs 0 0 ≤ 5001) : PG σ τ f N := by
  rcases h with h | h
  · exact PG_R h J
  · refine Or.inr (Or.inr ⟨h.1, by omega, by omega, ?_, h.2.2.2.1, by omega⟩)
    rw [h.2.1, h.2.2.1]; decide
theorem PG_c {σ τ σ' τ' : ga_S} {f : Int} {N : Nat} (h : PG σ τ f N) {LC LM : List Nat} (h1 : fr LC σ σ') (h2 : fr LM τ τ') (hc : [fR_bad, fR_p, fT_kinds].all (fun F => !(LC.contains F)) = true) (hm : [fM_isBad, fM_badAt, fM_at, fM_runs].all (fun F => !(LM.contains F)) = true) : PG σ' τ' f N := by
  unfold PG at h ⊢
  rw [fr_no h1 hc (F := fR_bad) (by decide), fr_no h1 hc (F := fR_p) (by decide), fr_no h1 hc (F := fT_kinds) (by decide), fr_no h2 hm (F := fM_isBad) (by decide), fr_no h2 hm (F := fM_badAt) (by decide), fr_no h2 hm (F := fM_at) (by decide), fr_no h2 hm (F := fM_runs) (by decide)]
  exact h
def bsC : List Nat := [fR_sort, fR_p, fR_bad, fR_runs, fR_runFrom, fR_runTo, fR_isValue, fR_placeSort, fR_placeFrom, fR_placeTo, fR_not, fR_usually]
def bsM : List Nat := fM_sort :: fM_placeWay :: fM_placeRun :: fM_what :: fM_isNot :: fM_isUsually :: rmL
def plR (σ τ : ga_S) (f : Int) : Prop := 1 ≤ σ fR_placeSort 0 0 ∧ σ fR_placeSort 0 0 ≤ 5 ∧ τ fM_placeWay 0 0 = σ fR_placeSort 0 0 ∧ rnR σ τ f (τ fM_placeRun 0 0) (σ fR_placeFrom 0 0) (σ fR_placeTo 0 0)
/-- what is kept behind be, by sort -/
def beR (σ τ : ga_S) (f n p : Int) : Prop := τ fM_sort 0 0 = σ fR_sort 0 0 ∧ (∀ i, 0 ≤ i → i < σ fR_runs 0 0 → rr σ τ f i (n + i)) ∧
  ((σ fR_sort 0 0 = 10 ∧ ((σ fR_isValue 0 0 = 1 ∧ τ fM_what 0 0 = -2 ∧ σ fR_runs 0 0 = 0) ∨ (σ fR_isValue 0 0 = 0 ∧ τ fM_what 0 0 = -1 ∧ σ fR_runs 0 0 = 0) ∨ (σ fR_isValue 0 0 = 0 ∧ τ fM_what 0 0 = n ∧ σ fR_runs 0 0 = 1))) ∨
   (σ fR_sort 0 0 = 11 ∧ ((σ fR_runs 0 0 = 0 ∧ τ fM_what 0 0 = -1) ∨ (σ fR_runs 0 0 = 1 ∧ τ fM_what 0 0 = n))) ∨
   (σ fR_sort 0 0 = 12 ∧ σ fR_runs 0 0 = 1 ∧ τ fM_what 0 0 = n ∧ ((σ fR_placeSort 0 0 = 0 ∧ τ fM_placeWay 0 0 = 0) ∨ plR σ τ f)) ∨
   (σ fR_sort 0 0 = 13 ∧ σ fR_runs 0 0 = 0 ∧ plR σ τ f) ∨
   (σ fR_sort 0 0 = 14 ∧ σ fR_runs 0 0 = 2 ∧ τ fM_what 0 0 = n ∧ τ fM_placeRun 0 0 = n + 1) ∨
   (σ fR_sort 0 0 = 15 ∧ σ fR_runs 0 0 = 1 ∧ τ fM_what 0 0 = n ∧ τ fM_isNot 0 0 = σ fR_not 0 0 ∧ τ fM_isUsually 0 0 = σ fR_usually 0 0 ∧ (σ fR_not 0 0 = 0 ∨ σ fR_not 0 0 = 1) ∧ τ fM_runs 0 0 = n + 1 ∧ σ fR_placeSort 0 0 = 0) ∨
   (σ fR_sort 0 0 = 16 ∧ 2 ≤ σ fR_runs 0 0 ∧ τ fM_what 0 0 = n ∧ τ fM_runs 0 0 = n + σ fR_runs 0 0 ∧ oC σ ∧ p ≤ σ fR_runFrom 0 0 ∧ τ fM_isUsually 0 0 = 0))
/-- what holds behind be -/
def bsH (σ τ : ga_S) (f : Int) (N : Nat) (n : Int) : Prop := ENV σ τ f N ∧ PR σ τ f N ∧ JR σ τ ∧ σ fR_bad 0 0 = -1 ∧ σ fR_runs 0 0 = 0 ∧ τ fM_runs 0 0 = n ∧ (σ fR_not 0 0 = 0 ∧ τ fM_isNot 0 0 = 0 ∧ σ fR_usually 0 0 = 0 ∧ τ fM_isUsually 0 0 = 0) ∧ σ fR_isValue 0 0 = 0 ∧ σ fR_placeSort 0 0 = 0
def bsA (σ τ : ga_S) (f : Int) (N : Nat) (n : Int) (x y : Option ga_R) : Prop := ∃ σ' τ', x = some (0, σ') ∧ y = some (0, τ') ∧ PG σ' τ' f N ∧ fr bsC σ σ' ∧ fr bsM τ τ' ∧ (σ' fR_bad 0 0 = -1 → τ' fM_isBad 0 0 = 0 → rKeep τ τ' ∧ beR σ' τ' f n (σ fR_p 0 0))
theorem rKeep_f {τ τ' : ga_S} {L : List Nat} (h : fr L τ τ') (hL : [fM_runs, fM_runFrom, fM_runSize].all (fun F => !(L.contains F)) = true) : rKeep τ τ' := rKeep_eq (fr_no h hL (by decide)) (fr_no h hL (by decide)) (fr_no h hL (by decide))
theorem rr_1 {σ τ : ga_S} {f n : Int} (h1 : σ fR_runs 0 0 = 1) (h : rr σ τ f 0 n) : ∀ i, 0 ≤ i → i < σ fR_runs 0 0 → rr σ τ f i (n + i) := by
  intro i a b
  have : i = 0 := by omega
  rw [this, Int.add_zero]; exact h
theorem rr_0 {σ τ : ga_S} {f n : Int} (h1 : σ fR_runs 0 0 = 0) : ∀ i, 0 ≤ i → i < σ fR_runs 0 0 → rr σ τ f i (n + i) := fun i a b => by omega
/-- a kind of .. -/
theorem bs_kind {σ τ : ga_S} {f : Int} {N : Nat} {n : Int} (H : bsH σ τ f N n) {d : Nat} (hd : 4 ≤ d) (hk : σ fR_p 0 0 + 2 ≤ N) : bsA σ τ f N n ((c_r_takes d (ga_up (ga_up σ fR_sort 0 0 10) fR_p 0 0 (w32 ((σ fR_p 0 0) + 2))) 16).bind fun q1 =>
        if q1.1 = 0 then
          some (0, q1.2)
        else
          (c_r_takes d q1.2 29).bind fun q2 =>
            ga_01 q2.1 (if q2.1 = 0 then
                (c_r_name d (ga_up q2.2 fR_isValue 0 0 q2.1)).bind fun q3 =>
                  some (0, q3.2)
              else
                some (0, (ga_up q2.2 fR_isValue 0 0 q2.1)))) ((c_m_isNext d (ga_up (ga_up (ga_up (ga_up τ fM_placeWay 0 0 0) fM_sort 0 0 10) fM_at 0 0 (w32 ((τ fM_at 0 0) + 2))) fM_what 0 0 (-1)) 107).bind fun q2 =>
            if q2.1 = 0 then
              some (0, q2.2)
            else
              (c_m_isNext d (ga_up q2.2 fM_at 0 0 (w32 ((q2.2 fM_at 0 0) + 1))) 120).bind fun q3 =>
                if q3.1 = 0 then
                  (c_m_name0 d q3.2).bind fun q4 =>
                    some (0, (ga_up q4.2 fM_what 0 0 q4.1))
                else
                  some (0, (ga_up (ga_up q3.2 fM_what 0 0 (-2)) fM_at 0 0 (w32 ((q3.2 fM_at 0 0) + 1))))) := by
  obtain ⟨hE, hP, hJ, hb, hr, hn, hnu, hv, hps⟩ := H
  have hf := hE.1
  have hN := hE.2.1
  have ok := PR_ok hP hb
  rw [w32_ok (by omega), w32_ok (by omega)]
  obtain ⟨σ1, e1⟩ : ∃ x, x = ga_up (ga_up σ fR_sort 0 0 10) fR_p 0 0 (σ fR_p 0 0 + 2) := ⟨_, rfl⟩
  obtain ⟨τ1, e2⟩ : ∃ x, x = ga_up (ga_up (ga_up (ga_up τ fM_placeWay 0 0 0) fM_sort 0 0 10) fM_at 0 0 (τ fM_at 0 0 + 2)) fM_what 0 0 (-1) := ⟨_, rfl⟩
  rw [← e1, ← e2]
  have f1 : fr [fR_sort, fR_p] σ σ1 := by rw [e1]; exact fr_trans (fr_u (by decide)) (fr_u (by decide))
  have g1 : fr [fM_placeWay, fM_sort, fM_at, fM_what] τ τ1 := by rw [e2]; exact fr_trans (fr_trans (fr_trans (fr_u (by decide)) (fr_u (by decide))) (fr_u (by decide))) (fr_u (by decide))
  obtain ⟨E1, P1, J1⟩ := ST_mv hE hP hJ hb (n := 2) (by omega) hk f1 g1 (by decide) (by decide) (by rw [e1, up_eq]) (by rw [e2, up_F (by decide), up_eq])
  have b1 : σ1 fR_bad 0 0 = -1 := by rw [f1 _ (by decide)]; exact hb
  have s1 : σ1 fR_sort 0 0 = 10 := by rw [e1, up_F (by decide), up_eq]
  have t1 : τ1 fM_sort 0 0 = 10 := by rw [e2, up_F (by decide), up_F (by decide), up_eq]
  have w1 : τ1 fM_what 0 0 = -1 := by rw [e2, up_eq]
  have v1 : σ1 fR_isValue 0 0 = 0 := by rw [f1 _ (by decide)]; exact hv
  have r1 : σ1 fR_runs 0 0 = 0 := by rw [f1 _ (by decide)]; exact hr
  have n1 : τ1 fM_runs 0 0 = n := by rw [g1 _ (by decide)]; exact hn
  rw [s_r_takes E1 P1 (by omega), s_nx E1 P1 (by omega) (c := 16) (by decide) (by decide)]
  simp only [Option.bind_some]
  by_cases ck : σ1 fR_bad 0 0 = -1 ∧ σ1 fT_kinds 0 (σ1 fR_p 0 0) = 16
  · have ok1 := PR_ok P1 b1
    have lt : σ1 fR_p 0 0 < N := ENV_lt E1 ok1.2.2.1 ck.2 (by decide) (by decide)
    rw [decide_eq_true ck, if_neg b2i_n, if_neg b2i_n, if_pos ck, w32_ok (by omega)]
    obtain ⟨σ2, e3⟩ : ∃ x, x = ga_up σ1 fR_p 0 0 (σ1 fR_p 0 0 + 1) := ⟨_, rfl⟩
    obtain ⟨τ2, e4⟩ : ∃ x, x = ga_up τ1 fM_at 0 0 (τ1 fM_at 0 0 + 1) := ⟨_, rfl⟩
    rw [← e3, ← e4]
    have f2 : fr [fR_p] σ1 σ2 := by rw [e3]; exact fr_u (by decide)
    have g2 : fr [fM_at] τ1 τ2 := by rw [e4]; exact fr_u (by decide)
    obtain ⟨E2, P2, J2⟩ := ST_mv E1 P1 J1 b1 (n := 1) (by omega) (by omega) f2 g2 (by decide) (by decide) (by rw [e3, up_eq]) (by rw [e4, up_eq])
    have b2 : σ2 fR_bad 0 0 = -1 := by rw [f2 _ (by decide)]; exact b1
    rw [s_r_takes E2 P2 (by omega), s_nx E2 P2 (by omega) (c := 29) (by decide) (by decide)]
    simp only [Option.bind_some]
    have ok2 := PR_ok P2 b2
    by_cases cv : σ2 fR_bad 0 0 = -1 ∧ σ2 fT_kinds 0 (σ2 fR_p 0 0) = 29
    · have lt2 : σ2 fR_p 0 0 < N := ENV_lt E2 ok2.2.2.1 cv.2 (by decide) (by decide)
      rw [decide_eq_true cv, if_neg b2i_n, if_neg b2i_n, if_pos cv, z1_ok _ (b2i_01 true), w32_ok (by omega)]
      obtain ⟨σ3, e5⟩ : ∃ x, x = ga_up (ga_up σ2 fR_p 0 0 (σ2 fR_p 0 0 + 1)) fR_isValue 0 0 (b2i true) := ⟨_, rfl⟩
      obtain ⟨τ3, e6⟩ : ∃ x, x = ga_up (ga_up τ2 fM_what 0 0 (-2)) fM_at 0 0 (τ2 fM_at 0 0 + 1) := ⟨_, rfl⟩
      rw [← e5, ← e6]
      have f3 : fr [fR_p, fR_isValue] σ2 σ3 := by rw [e5]; exact fr_trans (fr_u (by decide)) (fr_u (by decide))
      have g3 : fr [fM_what, fM_at] τ2 τ3 := by rw [e6]; exact fr_trans (fr_u (by decide)) (fr_u (by decide))
      obtain ⟨E3, P3, J3⟩ := ST_mv E2 P2 J2 b2 (n := 1) (by omega) (by omega) f3 g3 (by decide) (by decide) (by rw [e5, up_F (by decide), up_eq]) (by rw [e6, up_eq])
      refine ⟨σ3, τ3, rfl, rfl, PG_R P3 (fun _ _ => J3.2.2.1), fr_trans (fr_sub f1 (by decide)) (fr_trans (fr_sub f2 (by decide)) (fr_sub f3 (by decide))), fr_trans (fr_sub g1 (by decide)) (fr_trans (fr_sub g2 (by decide)) (fr_sub g3 (by decide))), fun _ _ => ?_⟩
      have r3 : σ3 fR_runs 0 0 = 0 := by rw [f3 _ (by decide), f2 _ (by decide)]; exact r1
      have s3 : σ3 fR_sort 0 0 = 10 := by rw [f3 _ (by decide), f2 _ (by decide)]; exact s1
      refine ⟨rKeep_trans (rKeep_f g1 (by decide)) (rKeep_trans (rKeep_f g2 (by decide)) (rKeep_f g3 (by decide))), by rw [g3 _ (by decide), g2 _ (by decide), t1, s3], rr_0 r3, Or.inl ⟨s3, Or.inl ⟨by rw [e5, up_eq]; rfl, by rw [e6, up_F (by decide), up_eq], r3⟩⟩⟩
    · rw [decide_eq_false cv, if_pos b2i_f, if_pos b2i_f, if_neg cv, z1_ok _ (b2i_01 false)]
      obtain ⟨σ3, e5⟩ : ∃ x, x = ga_up σ2 fR_isValue 0 0 (b2i false) := ⟨_, rfl⟩
      rw [← e5]
      have f3 : fr [fR_isValue] σ2 σ3 := by rw [e5]; exact fr_u (by decide)
      obtain ⟨E3, P3, J3⟩ := ST_mv E2 P2 J2 b2 (n := 0) (by omega) (by omega) f3 (fr_refl [] τ2) (by decide) (by decide) (by rw [e5, up_F (by decide)]; omega) (by omega)
      obtain ⟨r, σ4, τ4, c4, m4, Q, G⟩ := S_name E3 P3 J3 (d := d) hd
      rw [c4, m4]
      simp only [Option.bind_some]
      obtain ⟨τ5, e6⟩ : ∃ x, x = ga_up τ4 fM_what 0 0 r := ⟨_, rfl⟩
      rw [← e6]
      have g5 : fr [fM_what] τ4 τ5 := by rw [e6]; exact fr_u (by decide)
      refine ⟨σ4, τ5, rfl, rfl, PG_c (PG_R Q.1 (fun _ _ => Q.2.1.2.2.1)) (fr_refl [] σ4) g5 (by decide) (by decide), fr_trans (fr_sub f1 (by decide)) (fr_trans (fr_sub f2 (by decide)) (fr_trans (fr_sub f3 (by decide)) (fr_sub Q.2.2.1 (by decide)))), fr_trans (fr_sub g1 (by decide)) (fr_trans (fr_sub g2 (by decide)) (fr_trans (fr_sub Q.2.2.2.1 (by decide)) (fr_sub g5 (by decide)))), fun z _ => ?_⟩
      obtain ⟨G1, G2, G3, G4, _⟩ := G z
      have r3 : σ3 fR_runs 0 0 = 0 := by rw [f3 _ (by decide), f2 _ (by decide)]; exact r1
      have n3 : τ2 fM_runs 0 0 = n := by rw [g2 _ (by decide)]; exact n1
      rw [r3] at G2 G4
      rw [n3] at G1 G4
      have r4 : σ4 fR_runs 0 0 = 1 := by omega
      have s4 : σ4 fR_sort 0 0 = 10 := by rw [Q.2.2.1 _ (by decide), f3 _ (by decide), f2 _ (by decide)]; exact s1
      refine ⟨rKeep_trans (rKeep_f g1 (by decide)) (rKeep_trans (rKeep_f g2 (by decide)) (rKeep_trans Q.2.2.2.2.2.1 (rKeep_f g5 (by decide)))), by rw [g5 _ (by decide), Q.2.2.2.1 _ (by decide), g2 _ (by decide), t1, s4], rr_1 r4 (rr_u G4 g5 (by decide) (by decide) (by decide)), Or.inl ⟨s4, Or.inr (Or.inr ⟨?_, by rw [e6, up_eq]; exact G1, r4⟩)⟩⟩
      rw [Q.2.2.1 _ (by decide), e5, up_eq]; rfl
  · rw [decide_eq_false ck, if_pos b2i_f, if_pos b2i_f, if_neg ck]
    exact ⟨σ1, τ1, rfl, rfl, PG_R P1 (fun _ _ => J1.2.2.1), fr_sub f1 (by decide), fr_sub g1 (by decide), fun _ _ => ⟨rKeep_f g1 (by decide), by rw [t1, s1], rr_0 r1, Or.inl ⟨s1, Or.inr (Or.inl ⟨v1, w1, r1⟩)⟩⟩⟩

/-! a sentence of the component's -/
theorem vS_eq {σ ρ : ga_S} {v : Int} (hb : ρ fT_bytes v = σ fT_bytes v) (hs : ρ fT_size v 0 = σ fT_size v 0) (hi : ρ fT_inText v 0 = σ fT_inText v 0) (ha : ρ fT_at v 0 = σ fT_at v 0) (k : Nat) : vP ρ v k = vP σ v k ∧ vK ρ v k = vK σ v k ∧ vE ρ v k = vE σ v k := by
  have e : inT ρ v = inT σ v := by unfold inT; rw [hi]
  unfold vP vK vE
  rw [hb, hs, ha, e]
  exact ⟨rfl, rfl, rfl⟩
theorem vK_N {σ : ga_S} {v : Int} (h0 : σ fT_count v 0 = 0) (k : Nat) : vP (stN σ v k) v 0 = vP σ v k ∧ vK (stN σ v k) v 0 = vK σ v k ∧ vE (stN σ v k) v 0 = vE σ v k := by
  have f := stN_fr σ v k
  have s := (stN_at σ v h0 k).2.1
  have ei : inT (stN σ v k) v = inT σ v := by unfold inT; rw [f fT_inText (by decide)]
  have eP : vP (stN σ v k) v 0 = vP σ v k := by
    show bl _ _ _ _ = _
    rw [f fT_bytes (by decide), f fT_size (by decide), ei, s]
  refine ⟨eP, ?_, ?_⟩
  · show tkK _ _ _ (vP (stN σ v k) v 0) = tkK _ _ _ (vP σ v k)
    rw [eP, f fT_bytes (by decide), f fT_size (by decide), ei]
  · show tkN _ _ _ (vP (stN σ v k) v 0) = tkN _ _ _ (vP σ v k)
    rw [eP, f fT_bytes (by decide), f fT_size (by decide), ei]
/-- the tokens of a sentence: N + 1 of them -/
def snA (σ σ' : ga_S) (v : Int) (N : Nat) : Prop := vK σ v 0 ≠ 2 ∧ (vK σ v N = 3 ∨ vK σ v N = 7 ∨ vK σ v N = 8) ∧ (∀ j, j < N → vK σ v j ≠ 3 ∧ vK σ v j ≠ 7 ∧ vK σ v j ≠ 8) ∧ (N : Int) ≤ 5000 ∧
  (∀ j : Nat, j ≤ N → σ' fT_kinds v j = vK σ v j ∧ σ' fT_places v j = vP σ v j ∧ σ' fT_lengths v j = vE σ v j - vP σ v j) ∧ σ' fT_at v 0 = vE σ v N ∧ σ' fT_wrong v 0 = (if vK σ v N = 7 then vP σ v N else -1)
/-- a text alone -/
def snB (σ σ' : ga_S) (v : Int) (N : Nat) : Prop := vK σ v 0 = 2 ∧ N = 1 ∧ σ' fT_kinds v 0 = 2 ∧ σ' fT_kinds v 1 = 3 ∧ σ' fT_places v 0 = vP σ v 0 ∧ σ' fT_lengths v 0 = vE σ v 0 - vP σ v 0 ∧ σ' fT_places v 1 = (if vK σ v 1 = 3 then vP σ v 1 else vE σ v 0) ∧ σ' fT_at v 0 = (if vK σ v 1 = 3 then vE σ v 1 else vE σ v 0) ∧ σ' fT_wrong v 0 = -1
theorem s_t_sentence {σ : ga_S} {d : Nat} (hd : 5 ≤ d) {v : Int} (hT : tOk σ v) : ∃ σ' N, c_t_sentence d σ v = some (0, σ') ∧ fr tkL σ σ' ∧ (∀ F v', v' ≠ v → σ' F v' = σ F v') ∧ σ' fT_count v 0 = ((N + 1 : Nat) : Int) ∧ (snA σ σ' v N ∨ snB σ σ' v N) := by
  obtain ⟨d, rfl⟩ : ∃ e, d = e + 1 := ⟨d - 1, by omega⟩
  rw [e_t_sentence, nn_ok _ hT.1, nn_ok _ hT.1]
  have hρ : ∃ ρ, ρ = ga_up (ga_up σ fT_count v 0 0) fT_wrong v 0 (-1) := ⟨_, rfl⟩
  obtain ⟨ρ, eρ⟩ := hρ
  rw [← eρ]
  have fρ : fr tkL σ ρ := by rw [eρ]; exact fr_trans (fr_u (by decide)) (fr_u (by decide))
  have oρ : ∀ F v', v' ≠ v → ρ F v' = σ F v' := by
    intro F v' h
    rw [eρ]
    funext i
    unfold ga_up
    rw [if_neg (fun z => h z.2.1), if_neg (fun z => h z.2.1)]
  have aρ : ρ fT_at v 0 = σ fT_at v 0 := by rw [eρ, up_F (by decide), up_F (by decide)]
  have c0 : ρ fT_count v 0 = 0 := by rw [eρ, up_F (by decide), up_eq]
  have w0 : ρ fT_wrong v 0 = -1 := by rw [eρ, up_eq]
  have S := fun k => vS_eq (σ := σ) (ρ := ρ) (v := v) (by rw [fρ fT_bytes (by decide)]) (by rw [fρ fT_size (by decide)]) (by rw [fρ fT_inText (by decide)]) aρ k
  have hTρ : tOk ρ v := ⟨hT.1, by rw [fρ fT_size (by decide)]; exact hT.2.1, fun j a b => by rw [fρ fT_all (by decide)]; exact hT.2.2.1 j a b, by rw [aρ]; exact hT.2.2.2.1, by rw [aρ, fρ fT_size (by decide)]; exact hT.2.2.2.2⟩
  by_cases h2 : vK ρ v 0 = 2
  · -- a text alone
    have s1 := stN_at ρ v c0 1
    have K1 := vK_N (v := v) c0 1
    have hT1 := tOk_N hTρ c0 1
    obtain ⟨ρ0, g1, g2, g3, g4⟩ := s_t_next' (d := d) (by omega) hTρ (by rw [c0]; omega)
    rw [c0] at g2 g3
    rw [h2] at g1 g3
    obtain ⟨d, rfl⟩ : ∃ e, d = e + 1 := ⟨d - 1, by omega⟩
    have e3 := s_t_next (d := d) (by omega) hT1.1 hT1.2.1 hT1.2.2.1 (by rw [s1.1]; omega) hT1.2.2.2 rfl
    obtain ⟨ρ1, k1, k2, k3, k4⟩ := s_t_next' (d := d) (by omega) hT1 (by rw [s1.1]; omega)
    rw [s1.1] at k2 k3
    rw [K1.2.1] at k1 k3
    have hst : t_sentence_10 (d + 1) ρ v = (c_t_textAlone (d + 1) (stN ρ v 1) v).bind fun q2 => t_sentence_55 (d + 1) q2.2 v q2.1 := by
      rw [e_t_sentence_10, nn_ok _ hT.1, g1]; simp only [Option.bind_some]
      simp only [nn_ok _ hT.1]
      rw [g2, ck_ok _ (by omega), w32_ok (by omega), if_pos (by decide), up_eq, if_pos (by omega), g3]
      rfl
    have tA : c_t_textAlone (d + 1) (stN ρ v 1) v = (if vK ρ v 1 = 3 then t_textAlone_40 d ρ1 v else t_textAlone_40 d (ga_up (ga_up (ga_up ρ1 fT_at v 0 (vE ρ v 0)) fT_wrong v 0 (-1)) fT_places v 1 (vE ρ v 0)) v) := by
      rw [e_t_textAlone, nn_ok _ hT.1, nn_ok _ hT.1, k1]; simp only [Option.bind_some]
      simp only [nn_ok _ hT.1]
      rw [k2, ck_ok _ (by omega), up_eq, s1.2.2.1 (by omega)]
      rfl
    have fin : ∀ ρ' : ga_S, ρ' fT_count v 0 = 1 → t_textAlone_40 d ρ' v = some (3, ga_up (ga_up ρ' fT_count v 0 2) fT_kinds v 1 3) := by
      intro ρ' h
      rw [e_t_textAlone_40]
      simp only [nn_ok _ hT.1]
      rw [h, ck_ok _ (by omega), w32_ok (by omega)]
      rfl
    by_cases c3 : vK ρ v 1 = 3
    · rw [if_pos c3, fin ρ1 (by rw [k2]; rfl)] at tA
      have e2 : ga_up (ga_up ρ1 fT_count v 0 2) fT_kinds v 1 3 = stN ρ v 2 := by
        rw [up_comm (by decide)]
        rw [c3] at k3
        exact k3
      rw [e2] at tA
      have s2 := stN_at ρ v c0 2
      have w := (stN_wrong ρ v c0 1 (fun j hj => by
        have : j = 0 := by omega
        rw [this, h2]; decide)).2
      refine ⟨stN ρ v 2, 1, ?_, fr_trans fρ (stN_fr ρ v 2), fun F v' h => (stN_o ρ v F v' h 2).trans (oρ F v' h), s2.1, Or.inr ?_⟩
      · rw [hst, tA]; simp only [Option.bind_some]; rw [e_t_sentence_55, if_pos (by decide)]
      · have r0 := s2.2.2.2 0 (by omega)
        have r1 := s2.2.2.2 1 (by omega)
        have a := s2.2.2.1 (by omega)
        rw [h2, (S 0).1, (S 0).2.2] at r0
        rw [c3, (S 1).1, (S 1).2.2] at r1
        rw [(S 1).2.2] at a
        rw [c3, if_neg (by decide), w0] at w
        rw [(S 1).2.1] at c3
        rw [(S 0).2.1] at h2
        refine ⟨h2, rfl, r0.1, r1.1, r0.2.1, r0.2.2, ?_, ?_, w⟩
        · rw [if_pos c3]; exact r1.2.1
        · rw [if_pos c3]; exact a
    · have hc1 : (ga_up (ga_up (ga_up ρ1 fT_at v 0 (vE ρ v 0)) fT_wrong v 0 (-1)) fT_places v 1 (vE ρ v 0)) fT_count v 0 = 1 := by
        rw [up_F (by decide), up_F (by decide), up_F (by decide), k2]; rfl
      rw [if_neg c3, fin _ hc1] at tA
      have r0 := s1.2.2.2 0 (by omega)
      rw [h2, (S 0).1, (S 0).2.2] at r0
      have n1 := fun F (hF : F ∈ [fT_kinds]) => k4 F
      have kk : ∀ i : Int, i ≠ 1 → ρ1 fT_places v i = (stN ρ v 1) fT_places v i ∧ ρ1 fT_lengths v i = (stN ρ v 1) fT_lengths v i ∧ ρ1 fT_kinds v i = (stN ρ v 1) fT_kinds v i := by
        intro i hi
        have e : ρ1 = _ := (Prod.mk.inj (Option.some.inj (k1.symm.trans e3))).2
        rw [e]
        unfold NX
        rw [s1.1]
        refine ⟨?_, ?_, ?_⟩
        · rw [up_F (by decide), up_F (by decide), up_F (by decide), up_i (i := ((1 : Nat) : Int)) hi]
        · rw [up_F (by decide), up_i (i := ((1 : Nat) : Int)) hi, up_F (by decide), up_F (by decide)]
        · rw [up_F (by decide), up_F (by decide), up_F (by decide), up_F (by decide)]
      have ko : ∀ F v', v' ≠ v → ρ1 F v' = (stN ρ v 1) F v' := by
        intro F v' h
        have e : ρ1 = _ := (Prod.mk.inj (Option.some.inj (k1.symm.trans e3))).2
        rw [e]
        exact NX_o _ v _ _ _ _ F v' h
      have hfin : t_sentence_10 (d + 1) ρ v = some (0, ga_up (ga_up (ga_up (ga_up (ga_up ρ1 fT_at v 0 (vE ρ v 0)) fT_wrong v 0 (-1)) fT_places v 1 (vE ρ v 0)) fT_count v 0 2) fT_kinds v 1 3) := by
        rw [hst, tA]; simp only [Option.bind_some]; rw [e_t_sentence_55, if_pos (by decide)]
      refine ⟨_, 1, hfin, ?_, ?_, ?_, Or.inr ?_⟩
      · exact fr_trans fρ (fr_trans (stN_fr ρ v 1) (fr_trans k4 (fr_trans (fr_trans (fr_trans (fr_trans (fr_u (by decide)) (fr_u (by decide))) (fr_u (by decide))) (fr_u (by decide))) (fr_u (by decide)))))
      · intro F v' h
        refine Eq.trans ?_ ((ko F v' h).trans ((stN_o ρ v F v' h 1).trans (oρ F v' h)))
        funext i
        unfold ga_up
        rw [if_neg (fun z => h z.2.1), if_neg (fun z => h z.2.1), if_neg (fun z => h z.2.1), if_neg (fun z => h z.2.1), if_neg (fun z => h z.2.1)]
      · rw [up_F (by decide), up_eq]; rfl
      · have c3' : ¬ vK σ v 1 = 3 := by rw [← (S 1).2.1]; exact c3
        rw [(S 0).2.1] at h2
        rw [(S 0).2.2]
        refine ⟨h2, rfl, ?_, ?_, ?_, ?_, ?_, ?_, ?_⟩
        · rw [up_i (by decide), up_F (by decide), up_F (by decide), up_F (by decide), up_F (by decide), (kk 0 (by decide)).2.2]; exact r0.1
        · rw [up_eq]
        · rw [up_F (by decide), up_F (by decide), up_i (by decide), up_F (by decide), up_F (by decide), (kk 0 (by decide)).1]; exact r0.2.1
        · rw [up_F (by decide), up_F (by decide), up_F (by decide), up_F (by decide), up_F (by decide), (kk 0 (by decide)).2.1]; exact r0.2.2
        · rw [up_F (by decide), up_F (by decide), up_eq, if_neg c3']
        · rw [up_F (by decide), up_F (by decide), up_F (by decide), up_F (by decide), up_eq, if_neg c3']
        · rw [up_F (by decide), up_F (by decide), up_F (by decide), up_eq]
  · obtain ⟨N, hN, hb⟩ := least (P := fun k => vK ρ v k = 3 ∨ vK ρ v k = 7 ∨ vK ρ v k = 8) (by
      obtain ⟨k, _, hk⟩ := sP_stop (B := ρ fT_bytes v) (x := inT ρ v) hTρ.2.2.2
      exact ⟨k, Or.inr hk⟩)
    have hb' : ∀ j, j < N → vK ρ v j ≠ 3 ∧ vK ρ v j ≠ 7 ∧ vK ρ v j ≠ 8 := fun j hj => ⟨fun z => hb j hj (Or.inl z), fun z => hb j hj (Or.inr (Or.inl z)), fun z => hb j hj (Or.inr (Or.inr z))⟩
    have e := s_t_sentence_10 (d := d) (by omega) hTρ c0 N hN hb' h2 N 0 (by omega)
    have s := stN_at ρ v c0 (N + 1)
    have w := (stN_wrong ρ v c0 N (fun j hj => (hb' j hj).2.1)).2
    have kN := sP_k (B := ρ fT_bytes v) (x := inT ρ v) hTρ.2.2.2 N (fun j hj => (hb' j hj).2)
    have rN := (sP_r (B := ρ fT_bytes v) (x := inT ρ v) hTρ.2.2.2 N).2.1
    have h5 := hTρ.2.1
    have eK : vK ρ v = vK σ v := funext (fun k => (S k).2.1)
    have eP : vP ρ v = vP σ v := funext (fun k => (S k).1)
    have eE : vE ρ v = vE σ v := funext (fun k => (S k).2.2)
    refine ⟨stN ρ v (N + 1), N, e, fr_trans fρ (stN_fr ρ v (N + 1)), fun F v' h => (stN_o ρ v F v' h _).trans (oρ F v' h), s.1, Or.inl ?_⟩
    rw [eK] at h2 hN hb' w s
    rw [eP] at w s
    rw [eE] at s
    rw [w0] at w
    refine ⟨h2, hN, hb', by omega, fun j hj => s.2.2.2 j (by omega), ?_, w⟩
    exact s.2.2.1 (by omega)

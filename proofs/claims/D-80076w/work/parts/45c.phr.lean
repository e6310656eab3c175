/-! what a phrase does, component: by its sort -/
section
variable {σ : ga_S}
theorem ph_0 {s noun : Int} {d : Nat} (hs : 0 ≤ s) (w : σ fS_what s 0 = 0) (hd : 1 ≤ d) : c_u_phrase (d + 1) σ s noun = if σ fS_not s 0 = 0 then u_phrase_106 d σ (obT (σ fS_thing s 0) (-1) noun) (σ fS_which s 0) else ga_ck (σ fS_which s 0) 24 (u_phrase_106 d σ (obT (σ fS_thing s 0) (-1) noun) (σ fW_contraries 0 (σ fS_which s 0))) := by
  rw [e_u_phrase, nn_ok _ hs, k_obj _ _ _ hd, Option.bind_some, nn_ok _ hs]
  refine (if_pos (show σ fS_what s 0 = 0 from w)).trans ?_
  show ga_nn s (if σ fS_not s 0 = 0 then ga_nn s (u_phrase_106 d σ (obT (σ fS_thing s 0) (-1) noun) (σ fS_which s 0)) else ga_nn s (ga_ck (σ fS_which s 0) 24 (u_phrase_106 d σ (obT (σ fS_thing s 0) (-1) noun) (σ fW_contraries 0 (σ fS_which s 0))))) = _
  rw [nn_ok _ hs, nn_ok _ hs, nn_ok _ hs]
theorem ph_1 {s noun : Int} {d : Nat} (hs : 0 ≤ s) (w : σ fS_what s 0 = 1) {o : Int} (eo : o = (obT (σ fS_thing s 0) (-1) noun)) (h1 : 0 ≤ o ∧ o < 40) (h2 : 0 ≤ σ fS_which s 0 ∧ σ fS_which s 0 < 12) (hd : 1 ≤ d) : c_u_phrase (d + 1) σ s noun = some (0, ga_up (ga_up (ga_up σ fW_has o (σ fS_which s 0) 1) fW_numbers o (σ fS_which s 0) (σ fS_value s 0)) fW_lengths o (σ fS_which s 0) (σ fS_length s 0)) := by
  rw [e_u_phrase, nn_ok _ hs, k_obj _ _ _ hd, Option.bind_some, nn_ok _ hs]
  refine (if_neg (show ¬ σ fS_what s 0 = 0 by rw [w]; decide)).trans ?_
  refine (if_pos (show σ fS_what s 0 = 1 from w)).trans ?_
  rw [← eo]
  show ga_ck o 40 (ga_nn s (ga_nn o (ga_ck (σ fS_which s 0) 12 (ga_ck o 40 (ga_nn s (ga_nn s (ga_nn o (ga_ck (σ fS_which s 0) 12 (ga_ck o 40 (ga_nn s (ga_nn s (ga_nn o (ga_ck (σ fS_which s 0) 12 (some (0, ga_up (ga_up (ga_up σ fW_has o (σ fS_which s 0) 1) fW_numbers o (σ fS_which s 0) (σ fS_value s 0)) fW_lengths o (σ fS_which s 0) (σ fS_length s 0)))))))))))))))) = _
  rw [ck_ok _ h1, nn_ok _ hs, nn_ok _ h1.1, ck_ok _ h2, ck_ok _ h1, nn_ok _ hs, nn_ok _ hs, nn_ok _ h1.1, ck_ok _ h2, ck_ok _ h1, nn_ok _ hs, nn_ok _ hs, nn_ok _ h1.1, ck_ok _ h2]
theorem ph_3 {s noun : Int} {d : Nat} (hs : 0 ≤ s) (w : σ fS_what s 0 = 3) {o : Int} (eo : o = (obT (σ fS_thing s 0) (-1) noun)) (h1 : 0 ≤ o ∧ o < 40) (h2 : 0 ≤ σ fS_which s 0 ∧ σ fS_which s 0 < 12) (hd : 1 ≤ d) : c_u_phrase (d + 1) σ s noun = some (0, ga_up (ga_up (ga_up σ fW_has o (σ fS_which s 0) 1) fW_numbers o (σ fS_which s 0) (σ fS_value s 0)) fW_lengths o (σ fS_which s 0) (σ fS_length s 0)) := by
  rw [e_u_phrase, nn_ok _ hs, k_obj _ _ _ hd, Option.bind_some, nn_ok _ hs]
  refine (if_neg (show ¬ σ fS_what s 0 = 0 by rw [w]; decide)).trans ?_
  refine (if_neg (show ¬ σ fS_what s 0 = 1 by rw [w]; decide)).trans ?_
  refine (if_neg (show ¬ σ fS_what s 0 = 2 by rw [w]; decide)).trans ?_
  refine (if_pos (show σ fS_what s 0 = 3 from w)).trans ?_
  rw [← eo]
  show ga_ck o 40 (ga_nn s (ga_nn o (ga_ck (σ fS_which s 0) 12 (ga_ck o 40 (ga_nn s (ga_nn s (ga_nn o (ga_ck (σ fS_which s 0) 12 (ga_ck o 40 (ga_nn s (ga_nn s (ga_nn o (ga_ck (σ fS_which s 0) 12 (some (0, ga_up (ga_up (ga_up σ fW_has o (σ fS_which s 0) 1) fW_numbers o (σ fS_which s 0) (σ fS_value s 0)) fW_lengths o (σ fS_which s 0) (σ fS_length s 0)))))))))))))))) = _
  rw [ck_ok _ h1, nn_ok _ hs, nn_ok _ h1.1, ck_ok _ h2, ck_ok _ h1, nn_ok _ hs, nn_ok _ hs, nn_ok _ h1.1, ck_ok _ h2, ck_ok _ h1, nn_ok _ hs, nn_ok _ hs, nn_ok _ h1.1, ck_ok _ h2]
theorem ph_4 {s noun : Int} {d : Nat} (hs : 0 ≤ s) (w : σ fS_what s 0 = 4) {o : Int} (eo : o = (obT (σ fS_thing s 0) (-1) noun)) (h1 : 0 ≤ o ∧ o < 40) (h2 : 0 ≤ σ fS_which s 0 ∧ σ fS_which s 0 < 12) (hd : 1 ≤ d) : c_u_phrase (d + 1) σ s noun = some (0, ga_up (ga_up (ga_up σ fW_has o (σ fS_which s 0) 1) fW_numbers o (σ fS_which s 0) (σ fS_value s 0)) fW_lengths o (σ fS_which s 0) (σ fS_length s 0)) := by
  rw [e_u_phrase, nn_ok _ hs, k_obj _ _ _ hd, Option.bind_some, nn_ok _ hs]
  refine (if_neg (show ¬ σ fS_what s 0 = 0 by rw [w]; decide)).trans ?_
  refine (if_neg (show ¬ σ fS_what s 0 = 1 by rw [w]; decide)).trans ?_
  refine (if_neg (show ¬ σ fS_what s 0 = 2 by rw [w]; decide)).trans ?_
  refine (if_neg (show ¬ σ fS_what s 0 = 3 by rw [w]; decide)).trans ?_
  refine (if_pos (show σ fS_what s 0 = 4 from w)).trans ?_
  rw [← eo]
  show ga_ck o 40 (ga_nn s (ga_nn o (ga_ck (σ fS_which s 0) 12 (ga_ck o 40 (ga_nn s (ga_nn s (ga_nn o (ga_ck (σ fS_which s 0) 12 (ga_ck o 40 (ga_nn s (ga_nn s (ga_nn o (ga_ck (σ fS_which s 0) 12 (some (0, ga_up (ga_up (ga_up σ fW_has o (σ fS_which s 0) 1) fW_numbers o (σ fS_which s 0) (σ fS_value s 0)) fW_lengths o (σ fS_which s 0) (σ fS_length s 0)))))))))))))))) = _
  rw [ck_ok _ h1, nn_ok _ hs, nn_ok _ h1.1, ck_ok _ h2, ck_ok _ h1, nn_ok _ hs, nn_ok _ hs, nn_ok _ h1.1, ck_ok _ h2, ck_ok _ h1, nn_ok _ hs, nn_ok _ hs, nn_ok _ h1.1, ck_ok _ h2]
theorem ph_7 {s noun : Int} {d : Nat} (hs : 0 ≤ s) (w : σ fS_what s 0 = 7) (hd : 1 ≤ d) : c_u_phrase (d + 1) σ s noun = (c_w_relate d σ (σ fS_which s 0) (obT (σ fS_thing s 0) (-1) noun) (obT (σ fS_other s 0) (-1) noun)).bind fun q9 => some (0, q9.2) := by
  rw [e_u_phrase, nn_ok _ hs, k_obj _ _ _ hd, Option.bind_some, nn_ok _ hs]
  refine (if_neg (show ¬ σ fS_what s 0 = 0 by rw [w]; decide)).trans ?_
  refine (if_neg (show ¬ σ fS_what s 0 = 1 by rw [w]; decide)).trans ?_
  refine (if_neg (show ¬ σ fS_what s 0 = 2 by rw [w]; decide)).trans ?_
  refine (if_neg (show ¬ σ fS_what s 0 = 3 by rw [w]; decide)).trans ?_
  refine (if_neg (show ¬ σ fS_what s 0 = 4 by rw [w]; decide)).trans ?_
  refine (if_neg (show ¬ σ fS_what s 0 = 5 by rw [w]; decide)).trans ?_
  refine (if_neg (show ¬ σ fS_what s 0 = 6 by rw [w]; decide)).trans ?_
  refine (if_pos (show σ fS_what s 0 = 7 from w)).trans ?_
  show ga_nn s (ga_nn s ((c_u_object d σ (σ fS_other s 0) (-1) noun).bind fun q8 => (c_w_relate d q8.2 (σ fS_which s 0) (obT (σ fS_thing s 0) (-1) noun) q8.1).bind fun q9 => some ((0 : Int), q9.2))) = _
  rw [nn_ok _ hs, nn_ok _ hs, k_obj _ _ _ hd, Option.bind_some]
theorem ph_8 {s noun : Int} {d : Nat} (hs : 0 ≤ s) (w : σ fS_what s 0 = 8) (hd : 1 ≤ d) : c_u_phrase (d + 1) σ s noun = (c_u_say d σ s noun).bind fun q7 => some (0, q7.2) := by
  rw [e_u_phrase, nn_ok _ hs, k_obj _ _ _ hd, Option.bind_some, nn_ok _ hs]
  refine (if_neg (show ¬ σ fS_what s 0 = 0 by rw [w]; decide)).trans ?_
  refine (if_neg (show ¬ σ fS_what s 0 = 1 by rw [w]; decide)).trans ?_
  refine (if_neg (show ¬ σ fS_what s 0 = 2 by rw [w]; decide)).trans ?_
  refine (if_neg (show ¬ σ fS_what s 0 = 3 by rw [w]; decide)).trans ?_
  refine (if_neg (show ¬ σ fS_what s 0 = 4 by rw [w]; decide)).trans ?_
  refine (if_neg (show ¬ σ fS_what s 0 = 5 by rw [w]; decide)).trans ?_
  refine (if_neg (show ¬ σ fS_what s 0 = 6 by rw [w]; decide)).trans ?_
  refine (if_neg (show ¬ σ fS_what s 0 = 7 by rw [w]; decide)).trans ?_
  refine (if_pos (show σ fS_what s 0 = 8 from w)).trans ?_
  rfl
theorem ph_9 {s noun : Int} {d : Nat} (hs : 0 ≤ s) (w : σ fS_what s 0 = 9) (hd : 1 ≤ d) : c_u_phrase (d + 1) σ s noun = (c_u_move d σ (obT (σ fS_thing s 0) (-1) noun) (obT (σ fS_other s 0) (-1) noun)).bind fun q6 => some (0, q6.2) := by
  rw [e_u_phrase, nn_ok _ hs, k_obj _ _ _ hd, Option.bind_some, nn_ok _ hs]
  refine (if_neg (show ¬ σ fS_what s 0 = 0 by rw [w]; decide)).trans ?_
  refine (if_neg (show ¬ σ fS_what s 0 = 1 by rw [w]; decide)).trans ?_
  refine (if_neg (show ¬ σ fS_what s 0 = 2 by rw [w]; decide)).trans ?_
  refine (if_neg (show ¬ σ fS_what s 0 = 3 by rw [w]; decide)).trans ?_
  refine (if_neg (show ¬ σ fS_what s 0 = 4 by rw [w]; decide)).trans ?_
  refine (if_neg (show ¬ σ fS_what s 0 = 5 by rw [w]; decide)).trans ?_
  refine (if_neg (show ¬ σ fS_what s 0 = 6 by rw [w]; decide)).trans ?_
  refine (if_neg (show ¬ σ fS_what s 0 = 7 by rw [w]; decide)).trans ?_
  refine (if_neg (show ¬ σ fS_what s 0 = 8 by rw [w]; decide)).trans ?_
  refine (if_pos (show σ fS_what s 0 = 9 from w)).trans ?_
  show ga_nn s ((c_u_object d σ (σ fS_other s 0) (-1) noun).bind fun q5 => (c_u_move d q5.2 (obT (σ fS_thing s 0) (-1) noun) q5.1).bind fun q6 => some ((0 : Int), q6.2)) = _
  rw [nn_ok _ hs, k_obj _ _ _ hd, Option.bind_some]
theorem ph_10 {s noun : Int} {d : Nat} (hs : 0 ≤ s) (w : σ fS_what s 0 = 10) {v : Int} (hv : c_w_number d σ (obT (σ fS_thing s 0) (-1) noun) (σ fS_which s 0) = some (v, σ)) (hd : 1 ≤ d) : c_u_phrase (d + 1) σ s noun = u_phrase_282 d σ s (obT (σ fS_thing s 0) (-1) noun) (σ fS_value s 0) v := by
  rw [e_u_phrase, nn_ok _ hs, k_obj _ _ _ hd, Option.bind_some, nn_ok _ hs]
  refine (if_neg (show ¬ σ fS_what s 0 = 0 by rw [w]; decide)).trans ?_
  refine (if_neg (show ¬ σ fS_what s 0 = 1 by rw [w]; decide)).trans ?_
  refine (if_neg (show ¬ σ fS_what s 0 = 2 by rw [w]; decide)).trans ?_
  refine (if_neg (show ¬ σ fS_what s 0 = 3 by rw [w]; decide)).trans ?_
  refine (if_neg (show ¬ σ fS_what s 0 = 4 by rw [w]; decide)).trans ?_
  refine (if_neg (show ¬ σ fS_what s 0 = 5 by rw [w]; decide)).trans ?_
  refine (if_neg (show ¬ σ fS_what s 0 = 6 by rw [w]; decide)).trans ?_
  refine (if_neg (show ¬ σ fS_what s 0 = 7 by rw [w]; decide)).trans ?_
  refine (if_neg (show ¬ σ fS_what s 0 = 8 by rw [w]; decide)).trans ?_
  refine (if_neg (show ¬ σ fS_what s 0 = 9 by rw [w]; decide)).trans ?_
  refine (if_pos (show σ fS_what s 0 = 10 from w)).trans ?_
  show ga_nn s ((c_w_number d σ (obT (σ fS_thing s 0) (-1) noun) (σ fS_which s 0)).bind fun q4 => ga_nn s (if q4.2 fS_what s 0 = 10 then ga_nn s (u_phrase_282 d q4.2 s (obT (σ fS_thing s 0) (-1) noun) (q4.2 fS_value s 0) q4.1) else ga_nn s (u_phrase_282 d q4.2 s (obT (σ fS_thing s 0) (-1) noun) (w32 (-(q4.2 fS_value s 0))) q4.1))) = _
  rw [nn_ok _ hs, hv, Option.bind_some, nn_ok _ hs]
  refine (if_pos (show σ fS_what s 0 = 10 from w)).trans ?_
  rw [nn_ok _ hs]
theorem ph_11 {s noun : Int} {d : Nat} (hs : 0 ≤ s) (w : σ fS_what s 0 = 11) {v : Int} (hv : c_w_number d σ (obT (σ fS_thing s 0) (-1) noun) (σ fS_which s 0) = some (v, σ)) (hd : 1 ≤ d) : c_u_phrase (d + 1) σ s noun = u_phrase_282 d σ s (obT (σ fS_thing s 0) (-1) noun) (w32 (-(σ fS_value s 0))) v := by
  rw [e_u_phrase, nn_ok _ hs, k_obj _ _ _ hd, Option.bind_some, nn_ok _ hs]
  refine (if_neg (show ¬ σ fS_what s 0 = 0 by rw [w]; decide)).trans ?_
  refine (if_neg (show ¬ σ fS_what s 0 = 1 by rw [w]; decide)).trans ?_
  refine (if_neg (show ¬ σ fS_what s 0 = 2 by rw [w]; decide)).trans ?_
  refine (if_neg (show ¬ σ fS_what s 0 = 3 by rw [w]; decide)).trans ?_
  refine (if_neg (show ¬ σ fS_what s 0 = 4 by rw [w]; decide)).trans ?_
  refine (if_neg (show ¬ σ fS_what s 0 = 5 by rw [w]; decide)).trans ?_
  refine (if_neg (show ¬ σ fS_what s 0 = 6 by rw [w]; decide)).trans ?_
  refine (if_neg (show ¬ σ fS_what s 0 = 7 by rw [w]; decide)).trans ?_
  refine (if_neg (show ¬ σ fS_what s 0 = 8 by rw [w]; decide)).trans ?_
  refine (if_neg (show ¬ σ fS_what s 0 = 9 by rw [w]; decide)).trans ?_
  refine (if_neg (show ¬ σ fS_what s 0 = 10 by rw [w]; decide)).trans ?_
  refine (if_pos (show σ fS_what s 0 = 11 from w)).trans ?_
  show ga_nn s ((c_w_number d σ (obT (σ fS_thing s 0) (-1) noun) (σ fS_which s 0)).bind fun q4 => ga_nn s (if q4.2 fS_what s 0 = 10 then ga_nn s (u_phrase_282 d q4.2 s (obT (σ fS_thing s 0) (-1) noun) (q4.2 fS_value s 0) q4.1) else ga_nn s (u_phrase_282 d q4.2 s (obT (σ fS_thing s 0) (-1) noun) (w32 (-(q4.2 fS_value s 0))) q4.1))) = _
  rw [nn_ok _ hs, hv, Option.bind_some, nn_ok _ hs]
  refine (if_neg (show ¬ σ fS_what s 0 = 10 by rw [w]; decide)).trans ?_
  rw [nn_ok _ hs]
theorem ph_12 {s noun : Int} {d : Nat} (hs : 0 ≤ s) (w : σ fS_what s 0 = 12) (hd : 1 ≤ d) : c_u_phrase (d + 1) σ s noun = if σ fU_within 0 0 < 8 then (if σ fS_thing s 0 = -1 then u_phrase_383 d σ s (obT (σ fS_thing s 0) (-1) noun) else ga_ck (σ fS_which s 0) 12 ((c_w_isKind d σ (obT (σ fS_thing s 0) (-1) noun) (σ fW_actionKinds 0 (σ fS_which s 0))).bind fun q2 => if q2.1 = 0 then some (0, q2.2) else u_phrase_383 d q2.2 s (obT (σ fS_thing s 0) (-1) noun))) else some (0, σ) := by
  rw [e_u_phrase, nn_ok _ hs, k_obj _ _ _ hd, Option.bind_some, nn_ok _ hs]
  refine (if_neg (show ¬ σ fS_what s 0 = 0 by rw [w]; decide)).trans ?_
  refine (if_neg (show ¬ σ fS_what s 0 = 1 by rw [w]; decide)).trans ?_
  refine (if_neg (show ¬ σ fS_what s 0 = 2 by rw [w]; decide)).trans ?_
  refine (if_neg (show ¬ σ fS_what s 0 = 3 by rw [w]; decide)).trans ?_
  refine (if_neg (show ¬ σ fS_what s 0 = 4 by rw [w]; decide)).trans ?_
  refine (if_neg (show ¬ σ fS_what s 0 = 5 by rw [w]; decide)).trans ?_
  refine (if_neg (show ¬ σ fS_what s 0 = 6 by rw [w]; decide)).trans ?_
  refine (if_neg (show ¬ σ fS_what s 0 = 7 by rw [w]; decide)).trans ?_
  refine (if_neg (show ¬ σ fS_what s 0 = 8 by rw [w]; decide)).trans ?_
  refine (if_neg (show ¬ σ fS_what s 0 = 9 by rw [w]; decide)).trans ?_
  refine (if_neg (show ¬ σ fS_what s 0 = 10 by rw [w]; decide)).trans ?_
  refine (if_neg (show ¬ σ fS_what s 0 = 11 by rw [w]; decide)).trans ?_
  refine (if_pos (show σ fS_what s 0 = 12 from w)).trans ?_
  show (if σ fU_within 0 0 < 8 then ga_nn s (if σ fS_thing s 0 = -1 then u_phrase_383 d σ s (obT (σ fS_thing s 0) (-1) noun) else ga_nn s (ga_ck (σ fS_which s 0) 12 ((c_w_isKind d σ (obT (σ fS_thing s 0) (-1) noun) (σ fW_actionKinds 0 (σ fS_which s 0))).bind fun q2 => if q2.1 = 0 then some ((0 : Int), q2.2) else u_phrase_383 d q2.2 s (obT (σ fS_thing s 0) (-1) noun)))) else some (0, σ)) = _
  rw [nn_ok _ hs, nn_ok _ hs]
theorem ph_13 {s noun : Int} {d : Nat} (hs : 0 ≤ s) (w : σ fS_what s 0 = 13) (hd : 1 ≤ d) : c_u_phrase (d + 1) σ s noun = some (0, ga_up σ fU_stops 0 0 1) := by
  rw [e_u_phrase, nn_ok _ hs, k_obj _ _ _ hd, Option.bind_some, nn_ok _ hs]
  refine (if_neg (show ¬ σ fS_what s 0 = 0 by rw [w]; decide)).trans ?_
  refine (if_neg (show ¬ σ fS_what s 0 = 1 by rw [w]; decide)).trans ?_
  refine (if_neg (show ¬ σ fS_what s 0 = 2 by rw [w]; decide)).trans ?_
  refine (if_neg (show ¬ σ fS_what s 0 = 3 by rw [w]; decide)).trans ?_
  refine (if_neg (show ¬ σ fS_what s 0 = 4 by rw [w]; decide)).trans ?_
  refine (if_neg (show ¬ σ fS_what s 0 = 5 by rw [w]; decide)).trans ?_
  refine (if_neg (show ¬ σ fS_what s 0 = 6 by rw [w]; decide)).trans ?_
  refine (if_neg (show ¬ σ fS_what s 0 = 7 by rw [w]; decide)).trans ?_
  refine (if_neg (show ¬ σ fS_what s 0 = 8 by rw [w]; decide)).trans ?_
  refine (if_neg (show ¬ σ fS_what s 0 = 9 by rw [w]; decide)).trans ?_
  refine (if_neg (show ¬ σ fS_what s 0 = 10 by rw [w]; decide)).trans ?_
  refine (if_neg (show ¬ σ fS_what s 0 = 11 by rw [w]; decide)).trans ?_
  refine (if_neg (show ¬ σ fS_what s 0 = 12 by rw [w]; decide)).trans ?_
  rfl
end

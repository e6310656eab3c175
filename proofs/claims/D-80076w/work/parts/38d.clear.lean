/-! the component's world as at first -/
theorem kc_H {σ : ga_S} (h0 : σ fW_commands 0 0 = 0) (hu : σ fW_commandUsed 0 0 = 0) {d : Nat} (hd : 2 ≤ d) : ∃ σ', w_clear_336 d σ 21 30 6 = some (0, σ') ∧ fr cwL σ σ' ∧ σ' fW_commands 0 0 = 7 ∧ (0 ≤ σ' fW_commandUsed 0 0 ∧ σ' fW_commandUsed 0 0 ≤ 672) ∧ CR σ' 0 0 (-1) wd22 ∧ CR σ' 1 1 0 wd23 ∧ CR σ' 2 1 0 wd24 ∧ CR σ' 3 2 0 wd25 ∧ CR σ' 4 3 0 wd26 ∧ CR σ' 5 4 (-2) wd27 ∧ CR σ' 6 4 (-2) [] := by
  obtain ⟨σ1, a1, a2, a3, a4, a5, a6⟩ := k_fc (a := 0) (k := -1) lt22.1 lt22.2.1 h0 (by decide) (show (0 : Int) + 1 = 1 by decide) hu (by decide) hd
  obtain ⟨σ2, b1, b2, b3, b4, b5, b6⟩ := k_fc (a := 1) (k := 0) lt23.1 lt23.2.1 a3 (by decide) (show (1 : Int) + 1 = 2 by decide) a4 (by decide) hd
  obtain ⟨σ3, c1, c2, c3, c4, c5, c6⟩ := k_fc (a := 1) (k := 0) lt24.1 lt24.2.1 b3 (by decide) (show (2 : Int) + 1 = 3 by decide) b4 (by decide) hd
  obtain ⟨σ4, d1, d2, d3, d4, d5, d6⟩ := k_fc (a := 2) (k := 0) lt25.1 lt25.2.1 c3 (by decide) (show (3 : Int) + 1 = 4 by decide) c4 (by decide) hd
  obtain ⟨σ5, e1, e2, e3, e4, e5, e6⟩ := k_fc (a := 3) (k := 0) lt26.1 lt26.2.1 d3 (by decide) (show (4 : Int) + 1 = 5 by decide) d4 (by decide) hd
  obtain ⟨σ6, f1, f2, f3, f4, f5, f6⟩ := k_fc (a := 4) (k := -2) lt27.1 lt27.2.1 e3 (by decide) (show (5 : Int) + 1 = 6 by decide) e4 (by decide) hd
  obtain ⟨σ7, g1, g2, g3, g4, g5, g6⟩ := k_fc (a := 4) (k := -2) l28 (fun c hc => by cases hc) f3 (by decide) (show (6 : Int) + 1 = 7 by decide) f4 (by decide) hd
  refine ⟨σ7, ?_, fr_trans a2 (fr_trans b2 (fr_trans c2 (fr_trans d2 (fr_trans e2 (fr_trans f2 g2))))), g3, by rw [g4]; decide, ?_, ?_, ?_, ?_, ?_, ?_, g5⟩
  · rw [e_w_clear_336, if_neg (by decide), a1]
    rw [Option.bind_some]
    rw [b1]
    rw [Option.bind_some]
    rw [c1]
    rw [Option.bind_some]
    rw [d1]
    rw [Option.bind_some]
    rw [e1]
    rw [Option.bind_some]
    rw [f1]
    rw [Option.bind_some]
    rw [g1]
    rfl
  · exact g6 _ _ _ _ (by decide) (f6 _ _ _ _ (by decide) (e6 _ _ _ _ (by decide) (d6 _ _ _ _ (by decide) (c6 _ _ _ _ (by decide) (b6 _ _ _ _ (by decide) a5)))))
  · exact g6 _ _ _ _ (by decide) (f6 _ _ _ _ (by decide) (e6 _ _ _ _ (by decide) (d6 _ _ _ _ (by decide) (c6 _ _ _ _ (by decide) b5))))
  · exact g6 _ _ _ _ (by decide) (f6 _ _ _ _ (by decide) (e6 _ _ _ _ (by decide) (d6 _ _ _ _ (by decide) c5)))
  · exact g6 _ _ _ _ (by decide) (f6 _ _ _ _ (by decide) (e6 _ _ _ _ (by decide) d5))
  · exact g6 _ _ _ _ (by decide) (f6 _ _ _ _ (by decide) e5)
  · exact g6 _ _ _ _ (by decide) f5
/-- rows are wiped -/
theorem kc_82 {v : Int} (hv : 0 ≤ v ∧ v < 40) (d : Nat) : ∀ (m k : Nat), k + m = 24 → ∀ σ : ga_S, ∃ σ', w_clear_82 d σ v k = w_clear_105 d σ' v 0 ∧ fr [fW_told] σ σ' ∧ (∀ r, r ≠ v → σ' fW_told r = σ fW_told r) ∧ ∀ a, σ' fW_told v a = if (k : Int) ≤ a ∧ a < 24 then 0 else σ fW_told v a := by
  intro m
  induction m with
  | zero =>
    intro k hk σ
    refine ⟨σ, ?_, fr_refl _ _, fun _ _ => rfl, fun a => by rw [if_neg (by omega)]⟩
    rw [e_w_clear_82, if_neg (by omega)]
  | succ m ih =>
    intro k hk σ
    obtain ⟨σ', a1, a2, a3, a4⟩ := ih (k + 1) (by omega) (ga_up σ fW_told v k 0)
    refine ⟨σ', ?_, fr_trans (fr_u (by decide)) a2, fun r hr => by rw [a3 r hr, up_n hr], fun a => ?_⟩
    · rw [e_w_clear_82, if_pos (by omega), ck_ok _ hv, nn_ok _ hv.1, ck_ok _ (by omega), w32_ok (by omega), show (k : Int) + 1 = ((k + 1 : Nat) : Int) by push_cast; rfl, a1]
    · rw [a4, up_at]
      by_cases c : a = (k : Int)
      · rw [if_neg (by push_cast; omega), if_pos c, if_pos (by omega)]
      · by_cases c2 : ((k + 1 : Nat) : Int) ≤ a ∧ a < 24
        · rw [if_pos c2, if_pos (by push_cast at c2; omega)]
        · rw [if_neg c2, if_neg c, if_neg (by push_cast at c2; omega)]
theorem kc_105 {v : Int} (hv : 0 ≤ v ∧ v < 40) (d : Nat) : ∀ (m k : Nat), k + m = 12 → ∀ σ : ga_S, ∃ σ', w_clear_105 d σ v k = w_clear_74 d σ' (v + 1) ∧ fr [fW_has] σ σ' ∧ (∀ r, r ≠ v → σ' fW_has r = σ fW_has r) ∧ ∀ a, σ' fW_has v a = if (k : Int) ≤ a ∧ a < 12 then 0 else σ fW_has v a := by
  intro m
  induction m with
  | zero =>
    intro k hk σ
    refine ⟨σ, ?_, fr_refl _ _, fun _ _ => rfl, fun a => by rw [if_neg (by omega)]⟩
    rw [e_w_clear_105, if_neg (by omega), w32_ok (by omega)]
  | succ m ih =>
    intro k hk σ
    obtain ⟨σ', a1, a2, a3, a4⟩ := ih (k + 1) (by omega) (ga_up σ fW_has v k 0)
    refine ⟨σ', ?_, fr_trans (fr_u (by decide)) a2, fun r hr => by rw [a3 r hr, up_n hr], fun a => ?_⟩
    · rw [e_w_clear_105, if_pos (by omega), ck_ok _ hv, nn_ok _ hv.1, ck_ok _ (by omega), w32_ok (by omega), show (k : Int) + 1 = ((k + 1 : Nat) : Int) by push_cast; rfl, a1]
    · rw [a4, up_at]
      by_cases c : a = (k : Int)
      · rw [if_neg (by push_cast; omega), if_pos c, if_pos (by omega)]
      · by_cases c2 : ((k + 1 : Nat) : Int) ≤ a ∧ a < 12
        · rw [if_pos c2, if_pos (by push_cast at c2; omega)]
        · rw [if_neg c2, if_neg c, if_neg (by push_cast at c2; omega)]
theorem kc_74 (d : Nat) : ∀ (m k : Nat), k + m = 40 → ∀ σ : ga_S, ∃ σ', w_clear_74 d σ k = w_clear_74 d σ' 40 ∧ fr [fW_told, fW_has] σ σ' ∧ (∀ r : Int, r < k → σ' fW_told r = σ fW_told r ∧ σ' fW_has r = σ fW_has r) ∧ (∀ r a : Int, (k : Int) ≤ r → r < 40 → 0 ≤ a → (a < 24 → σ' fW_told r a = 0) ∧ (a < 12 → σ' fW_has r a = 0)) := by
  intro m
  induction m with
  | zero =>
    intro k hk σ
    have e : k = 40 := by omega
    subst e
    exact ⟨σ, rfl, fr_refl _ _, fun _ _ => ⟨rfl, rfl⟩, fun r a h1 h2 => by omega⟩
  | succ m ih =>
    intro k hk σ
    have hv : (0 : Int) ≤ k ∧ (k : Int) < 40 := by omega
    obtain ⟨σ1, a1, a2, a3, a4⟩ := kc_82 hv d 24 0 (by decide) σ
    obtain ⟨σ2, b1, b2, b3, b4⟩ := kc_105 hv d 12 0 (by decide) σ1
    obtain ⟨σ3, c1, c2, c3, c4⟩ := ih (k + 1) (by omega) σ2
    refine ⟨σ3, ?_, fr_trans (fr_sub a2 (by decide)) (fr_trans (fr_sub b2 (by decide)) c2), fun r hr => ?_, fun r a h1 h2 h3 => ?_⟩
    · rw [e_w_clear_74, if_pos hv.2]
      have a1' : w_clear_82 d σ k 0 = w_clear_105 d σ1 k 0 := a1
      have b1' : w_clear_105 d σ1 k 0 = w_clear_74 d σ2 ((k : Int) + 1) := b1
      rw [a1', b1', show (k : Int) + 1 = ((k + 1 : Nat) : Int) by push_cast; rfl, c1]
    · have c := c3 r (by push_cast; omega)
      rw [c.1, c.2, b2 fW_told (by decide), b3 r (by omega), a3 r (by omega), a2 fW_has (by decide)]
      exact ⟨rfl, rfl⟩
    · by_cases c : r = (k : Int)
      · have q := c3 r (by push_cast; omega)
        rw [q.1, q.2, c]
        refine ⟨fun h => ?_, fun h => ?_⟩
        · rw [b2 fW_told (by decide), a4, if_pos (by omega)]
        · rw [b4, if_pos (by omega)]
      · exact c4 r a (by push_cast; omega) h2 h3
/-- the component's world as at first -/
def WB (σ : ga_S) : Prop := (σ fW_kinds 0 0 = 5 ∧ σ fW_parents 0 0 = -1 ∧ σ fW_parents 0 1 = -1 ∧ σ fW_parents 0 2 = 0 ∧ σ fW_parents 0 3 = 0 ∧ σ fW_parents 0 4 = 0) ∧
  (σ fW_types 0 0 = 2 ∧ σ fW_typeValues 0 0 = 0 ∧ σ fW_typeValues 0 1 = 0 ∧ σ fW_values 0 0 = 0) ∧
  (σ fW_objects 0 0 = 1 ∧ σ fW_kindOf 0 0 = 4 ∧ σ fW_placed 0 0 = 0 ∧ σ fW_placeAt 0 0 = -1 ∧ ∀ b, 0 ≤ b → b < 6 → σ fW_ways 0 b = -1) ∧
  (σ fW_adjectives 0 0 = 2 ∧ σ fW_adjectiveKinds 0 0 = 0 ∧ σ fW_adjectiveKinds 0 1 = 0 ∧ σ fW_contraries 0 0 = 1 ∧ σ fW_contraries 0 1 = 0) ∧
  (∀ r a : Int, 0 ≤ r → r < 40 → 0 ≤ a → (a < 24 → σ fW_told r a = 0) ∧ (a < 12 → σ fW_has r a = 0)) ∧
  (σ fW_properties 0 0 = 1 ∧ σ fW_propertyTypes 0 0 = 1 ∧ σ fW_propertyKinds 0 0 = 3) ∧
  (σ fW_toldWays 0 0 = 0 ∧ σ fW_relations 0 0 = 0 ∧ σ fW_verbs 0 0 = 0 ∧ σ fW_rules 0 0 = 0) ∧
  (σ fW_actions 0 0 = 5 ∧ σ fW_actionKinds 0 0 = -1 ∧ σ fW_actionKinds 0 1 = 0 ∧ σ fW_actionKinds 0 2 = 0 ∧ σ fW_actionKinds 0 3 = 0 ∧ σ fW_actionKinds 0 4 = -2) ∧
  (σ fW_commands 0 0 = 7 ∧ (0 ≤ σ fW_commandUsed 0 0 ∧ σ fW_commandUsed 0 0 ≤ 672) ∧ CR σ 0 0 (-1) wd22 ∧ CR σ 1 1 0 wd23 ∧ CR σ 2 1 0 wd24 ∧ CR σ 3 2 0 wd25 ∧ CR σ 4 3 0 wd26 ∧ CR σ 5 4 (-2) wd27 ∧ CR σ 6 4 (-2) []) ∧ DL σ EB
def clC : List Nat := [fW_kinds, fW_parents, fW_types, fW_typeValues, fW_values, fW_objects, fW_kindOf, fW_placed, fW_placeAt, fW_ways, fW_adjectives, fW_adjectiveKinds, fW_contraries, fW_told, fW_has, fW_properties, fW_propertyTypes, fW_propertyKinds, fW_toldWays, fW_relations, fW_verbs, fW_rules, fW_actions, fW_actionKinds, fX_alloc] ++ cwL ++ dicL ++ spL
def wc0 (σ : ga_S) : ga_S := ga_up (ga_up (ga_up (ga_up (ga_up (ga_up (ga_up (ga_up (ga_up (ga_up (ga_up (ga_up (ga_up σ fW_kinds 0 0 0) fW_types 0 0 0) fW_values 0 0 0) fW_objects 0 0 0) fW_adjectives 0 0 0) fW_properties 0 0 0) fW_toldWays 0 0 0) fW_relations 0 0 0) fW_verbs 0 0 0) fW_actions 0 0 0) fW_rules 0 0 0) fW_commands 0 0 0) fW_commandUsed 0 0 0
def wc0L : List Nat := [fW_kinds, fW_types, fW_values, fW_objects, fW_adjectives, fW_properties, fW_toldWays, fW_relations, fW_verbs, fW_actions, fW_rules, fW_commands, fW_commandUsed]
theorem wc0_fr (σ : ga_S) : fr wc0L σ (wc0 σ) := by
  unfold wc0
  exact fr_trans (fr_trans (fr_trans (fr_trans (fr_trans (fr_trans (fr_trans (fr_trans (fr_trans (fr_trans (fr_trans (fr_trans (fr_u (by decide)) (fr_u (by decide))) (fr_u (by decide))) (fr_u (by decide))) (fr_u (by decide))) (fr_u (by decide))) (fr_u (by decide))) (fr_u (by decide))) (fr_u (by decide))) (fr_u (by decide))) (fr_u (by decide))) (fr_u (by decide))) (fr_u (by decide))
theorem wc0_v (σ : ga_S) : (wc0 σ) fW_kinds 0 0 = 0 ∧ (wc0 σ) fW_types 0 0 = 0 ∧ (wc0 σ) fW_values 0 0 = 0 ∧ (wc0 σ) fW_objects 0 0 = 0 ∧ (wc0 σ) fW_adjectives 0 0 = 0 ∧ (wc0 σ) fW_toldWays 0 0 = 0 ∧ (wc0 σ) fW_relations 0 0 = 0 ∧ (wc0 σ) fW_verbs 0 0 = 0 ∧ (wc0 σ) fW_actions 0 0 = 0 ∧ (wc0 σ) fW_rules 0 0 = 0 ∧ (wc0 σ) fW_commands 0 0 = 0 ∧ (wc0 σ) fW_commandUsed 0 0 = 0 := by
  unfold wc0
  refine ⟨?_, ?_, ?_, ?_, ?_, ?_, ?_, ?_, ?_, ?_, ?_, ?_⟩
  · rw [up_F (by decide), up_F (by decide), up_F (by decide), up_F (by decide), up_F (by decide), up_F (by decide), up_F (by decide), up_F (by decide), up_F (by decide), up_F (by decide), up_F (by decide), up_F (by decide), up_eq]
  · rw [up_F (by decide), up_F (by decide), up_F (by decide), up_F (by decide), up_F (by decide), up_F (by decide), up_F (by decide), up_F (by decide), up_F (by decide), up_F (by decide), up_F (by decide), up_eq]
  · rw [up_F (by decide), up_F (by decide), up_F (by decide), up_F (by decide), up_F (by decide), up_F (by decide), up_F (by decide), up_F (by decide), up_F (by decide), up_F (by decide), up_eq]
  · rw [up_F (by decide), up_F (by decide), up_F (by decide), up_F (by decide), up_F (by decide), up_F (by decide), up_F (by decide), up_F (by decide), up_F (by decide), up_eq]
  · rw [up_F (by decide), up_F (by decide), up_F (by decide), up_F (by decide), up_F (by decide), up_F (by decide), up_F (by decide), up_F (by decide), up_eq]
  · rw [up_F (by decide), up_F (by decide), up_F (by decide), up_F (by decide), up_F (by decide), up_F (by decide), up_eq]
  · rw [up_F (by decide), up_F (by decide), up_F (by decide), up_F (by decide), up_F (by decide), up_eq]
  · rw [up_F (by decide), up_F (by decide), up_F (by decide), up_F (by decide), up_eq]
  · rw [up_F (by decide), up_F (by decide), up_F (by decide), up_eq]
  · rw [up_F (by decide), up_F (by decide), up_eq]
  · rw [up_F (by decide), up_eq]
  · rw [up_eq]
noncomputable def wC2 (d : Nat) (q10 : ga_S) : Option ga_R :=
  (c_w_newAdjectives d q10 0).bind fun q11 =>
    (c_w_tell d q11.2 12 3 q11.1).bind fun q12 =>
      (c_w_tell d q12.2 13 3 (w32 (q11.1 + 1))).bind fun q13 =>
        (c_w_tell d (ga_up (ga_up (ga_up q13.2 fW_propertyTypes 0 0 1) fW_propertyKinds 0 0 3) fW_properties 0 0 1) 14 5 0).bind fun q14 =>
          (c_w_newObject d q14.2 4).bind fun q15 =>
            (c_w_tell d q15.2 15 2 q15.1).bind fun q16 =>
              (c_w_newAction d q16.2 (-1)).bind fun q17 =>
                (c_w_tell d q17.2 16 8 q17.1).bind fun q18 =>
                  (c_w_newAction d q18.2 0).bind fun q19 =>
                    (c_w_tell d q19.2 17 8 q19.1).bind fun q20 =>
                      (c_w_newAction d q20.2 0).bind fun q21 =>
                        (c_w_tell d q21.2 18 8 q21.1).bind fun q22 =>
                          (c_w_newAction d q22.2 0).bind fun q23 =>
                            (c_w_tell d q23.2 19 8 q23.1).bind fun q24 =>
                              (c_w_newAction d q24.2 (-2)).bind fun q25 =>
                                (c_w_tell d q25.2 20 8 q25.1).bind fun q26 =>
                                  w_clear_336 d q26.2 21 0 0
noncomputable def wC3 (d : Nat) (q16 : ga_S) : Option ga_R :=
  (c_w_newAction d q16 (-1)).bind fun q17 =>
    (c_w_tell d q17.2 16 8 q17.1).bind fun q18 =>
      (c_w_newAction d q18.2 0).bind fun q19 =>
        (c_w_tell d q19.2 17 8 q19.1).bind fun q20 =>
          (c_w_newAction d q20.2 0).bind fun q21 =>
            (c_w_tell d q21.2 18 8 q21.1).bind fun q22 =>
              (c_w_newAction d q22.2 0).bind fun q23 =>
                (c_w_tell d q23.2 19 8 q23.1).bind fun q24 =>
                  (c_w_newAction d q24.2 (-2)).bind fun q25 =>
                    (c_w_tell d q25.2 20 8 q25.1).bind fun q26 =>
                      w_clear_336 d q26.2 21 0 0
def ktC : List Nat := knC ++ tyW9
theorem kc_1 {σ : ga_S} (D2 : DL σ []) (z1 : σ fW_kinds 0 0 = 0) (z2 : σ fW_types 0 0 = 0) {d : Nat} (hd : 5 ≤ d) : ∃ σ', w_clear_74 d σ 40 = wC2 d σ' ∧ fr ktC σ σ' ∧ DL σ' (EA ++ [(wd10, 1, 0)] ++ [(wd11, 1, 1)]) ∧ (σ' fW_kinds 0 0 = 5 ∧ σ' fW_parents 0 0 = -1 ∧ σ' fW_parents 0 1 = -1 ∧ σ' fW_parents 0 2 = 0 ∧ σ' fW_parents 0 3 = 0 ∧ σ' fW_parents 0 4 = 0) ∧ σ' fW_types 0 0 = 2 ∧ σ' fW_typeValues 0 0 = 0 ∧ σ' fW_typeValues 0 1 = 0 := by
  obtain ⟨a1, a2, a3, a4, a5, x1, x2, x3, x4, x5, xf, xD, xk, xp0, xp1, xp2, xp3, xp4⟩ := kc_A D2 z1 hd
  obtain ⟨b0, b1, y1, y2, y3, y4, y5, y6⟩ := k_ty xD (by decide) lt10 (by rw [xf _ (by decide)]; exact z2) (by decide) (show (0 : Int) + 1 = 1 by decide) (d := d) (by omega)
  obtain ⟨b2, b3, v1, v2, v3, v4, v5, v6⟩ := k_ty y4 (by decide) lt11 y5 (by decide) (show (1 : Int) + 1 = 2 by decide) (d := d) (by omega)
  have fB : fr tyW9 a5 b3 := fr_trans y3 v3
  refine ⟨b3, ?_, fr_trans (fr_sub xf (mem_all (by decide))) (fr_sub fB (mem_all (by decide))), v4, ⟨?_, ?_, ?_, ?_, ?_, ?_⟩, v5, ?_, ?_⟩
  · rw [e_w_clear_74, if_neg (by decide), x1]
    rw [Option.bind_some]
    rw [x2]
    rw [Option.bind_some]
    rw [x3]
    rw [Option.bind_some]
    rw [x4]
    rw [Option.bind_some]
    rw [x5]
    rw [Option.bind_some]
    rw [y1]
    rw [Option.bind_some]
    rw [y2]
    rw [Option.bind_some]
    rw [v1]
    rw [Option.bind_some]
    rw [v2]
    rw [Option.bind_some]
    rfl
  · rw [fB _ (by decide)]; exact xk
  · rw [fB _ (by decide)]; exact xp0
  · rw [fB _ (by decide)]; exact xp1
  · rw [fB _ (by decide)]; exact xp2
  · rw [fB _ (by decide)]; exact xp3
  · rw [fB _ (by decide)]; exact xp4
  · rw [v6, if_neg (by decide), y6, if_pos rfl]
  · rw [v6, if_pos rfl]
def apC : List Nat := adW ++ noW ++ [fW_propertyTypes, fW_propertyKinds, fW_properties] ++ dicL ++ spL
theorem kc_2 {σ : ga_S} (D2 : DL σ (EA ++ [(wd10, 1, 0)] ++ [(wd11, 1, 1)])) (z1 : σ fW_adjectives 0 0 = 0) (z2 : σ fW_objects 0 0 = 0) {d : Nat} (hd : 5 ≤ d) : ∃ σ', wC2 d σ = wC3 d σ' ∧ fr apC σ σ' ∧ DL σ' EP ∧ (σ' fW_objects 0 0 = 1 ∧ σ' fW_kindOf 0 0 = 4 ∧ σ' fW_placed 0 0 = 0 ∧ σ' fW_placeAt 0 0 = -1 ∧ ∀ b, 0 ≤ b → b < 6 → σ' fW_ways 0 b = -1) ∧ (σ' fW_adjectives 0 0 = 2 ∧ σ' fW_adjectiveKinds 0 0 = 0 ∧ σ' fW_adjectiveKinds 0 1 = 0 ∧ σ' fW_contraries 0 0 = 1 ∧ σ' fW_contraries 0 1 = 0) ∧ (σ' fW_properties 0 0 = 1 ∧ σ' fW_propertyTypes 0 0 = 1 ∧ σ' fW_propertyKinds 0 0 = 3) := by
  obtain ⟨c0, p1, p2, p3, p4, p5⟩ := k_newAdjectives (σ := σ) (k := 0) (A := 0) z1.symm (by decide) (by decide) (d := d) (by omega)
  obtain ⟨c1, q1, q2, q3⟩ := k_tell1 (s := 3) (n := 0) (DL_f D2 p2 (by decide)) (by decide) lt12 (d := d) (by omega)
  obtain ⟨c2, r1, r2, r3⟩ := k_tell1 (s := 3) (n := 1) q3 (by decide) lt13 (d := d) (by omega)
  have fC : fr (dicL ++ spL) c0 c2 := fr_trans q2 r2
  obtain ⟨c3, e3⟩ : ∃ x, x = ga_up (ga_up (ga_up c2 fW_propertyTypes 0 0 1) fW_propertyKinds 0 0 3) fW_properties 0 0 1 := ⟨_, rfl⟩
  have f3 : fr [fW_propertyTypes, fW_propertyKinds, fW_properties] c2 c3 := by rw [e3]; exact fr_trans (fr_trans (fr_u (by decide)) (fr_u (by decide))) (fr_u (by decide))
  obtain ⟨c4, s1, s2, s3⟩ := k_tell1 (s := 5) (n := 0) (DL_f r3 f3 (by decide)) (by decide) lt14 (d := d) (by omega)
  have nob : c4 fW_objects 0 0 = 0 := by rw [s2 _ (by decide), f3 _ (by decide), fC _ (by decide), p2 _ (by decide)]; exact z2
  obtain ⟨c5, t1, t2, t3, t4, t5, t6, t7⟩ := k_newObject (kd := 4) nob (by decide) (d := d) (by omega)
  obtain ⟨c6, u1, u2, u3⟩ := k_tell1 (s := 2) (n := 0) (DL_f s3 t2 (by decide)) (by decide) lt15 (d := d) (by omega)
  have g1 : fr (noW ++ dicL ++ spL) c3 c6 := fr_trans (fr_sub s2 (mem_all (by decide))) (fr_trans (fr_sub t2 (mem_all (by decide))) (fr_sub u2 (mem_all (by decide))))
  have g2 : fr (noW ++ dicL ++ spL ++ [fW_propertyTypes, fW_propertyKinds, fW_properties]) c0 c6 := fr_trans (fr_sub fC (mem_all (by decide))) (fr_trans (fr_sub f3 (mem_all (by decide))) (fr_sub g1 (mem_all (by decide))))
  refine ⟨c6, ?_, fr_trans (fr_sub p2 (mem_all (by decide))) (fr_sub g2 (mem_all (by decide))), u3, ⟨?_, ?_, ?_, ?_, fun b h0 h1 => ?_⟩, ⟨?_, ?_, ?_, ?_, ?_⟩, ?_, ?_, ?_⟩
  · unfold wC2
    rw [p1]
    rw [Option.bind_some]
    rw [q1]
    rw [Option.bind_some]
    rw [show w32 ((0 : Int) + 1) = 1 by decide, r1]
    rw [Option.bind_some]
    rw [← e3, s1]
    rw [Option.bind_some]
    rw [t1]
    rw [Option.bind_some]
    rw [u1]
    rw [Option.bind_some]
    rfl
  · rw [u2 _ (by decide), t3]; rfl
  · rw [u2 _ (by decide), t4, if_pos rfl]
  · rw [u2 _ (by decide), t5, if_pos rfl]
  · rw [u2 _ (by decide), t6, if_pos rfl]
  · rw [u2 _ (by decide), t7, if_pos ⟨rfl, h0, h1⟩]
  · rw [g2 _ (by decide), p3]; rfl
  · rw [g2 _ (by decide), p4, if_pos (by decide)]
  · rw [g2 _ (by decide), p4, if_pos (by decide)]
  · rw [g2 _ (by decide), p5, if_pos rfl]; rfl
  · rw [g2 _ (by decide), p5, if_neg (by decide), if_pos (by decide)]
  · rw [g1 _ (by decide), e3, up_eq]
  · rw [g1 _ (by decide), e3, up_F (by decide), up_F (by decide), up_eq]
  · rw [g1 _ (by decide), e3, up_F (by decide), up_eq]
def enC : List Nat := acC ++ diC ++ cwL
theorem kc_3 {σ : ga_S} (D2 : DL σ EP) (hx : 0 ≤ σ fX_alloc 0 0) (z1 : σ fW_actions 0 0 = 0) (z2 : σ fW_commands 0 0 = 0) (z3 : σ fW_commandUsed 0 0 = 0) {d : Nat} (hd : 5 ≤ d) : ∃ σ', wC3 d σ = some (0, σ') ∧ fr enC σ σ' ∧ alR σ σ' 6 ∧ (σ' fW_actions 0 0 = 5 ∧ σ' fW_actionKinds 0 0 = -1 ∧ σ' fW_actionKinds 0 1 = 0 ∧ σ' fW_actionKinds 0 2 = 0 ∧ σ' fW_actionKinds 0 3 = 0 ∧ σ' fW_actionKinds 0 4 = -2) ∧ (σ' fW_commands 0 0 = 7 ∧ (0 ≤ σ' fW_commandUsed 0 0 ∧ σ' fW_commandUsed 0 0 ≤ 672) ∧ CR σ' 0 0 (-1) wd22 ∧ CR σ' 1 1 0 wd23 ∧ CR σ' 2 1 0 wd24 ∧ CR σ' 3 2 0 wd25 ∧ CR σ' 4 3 0 wd26 ∧ CR σ' 5 4 (-2) wd27 ∧ CR σ' 6 4 (-2) []) ∧ DL σ' EB := by
  obtain ⟨g0, g1, g2, g3, g4, g5, g6, g7, g8, g9, h0, h1, h2, h3, h4, h5, h6, h7, h8, h9, hF, hD, hA, hA0, hA1, hA2, hA3, hA4⟩ := kc_F D2 z1 (d := d) (by omega)
  obtain ⟨i1, j1, j2, j3, j4⟩ := kc_G hD (by rw [hF _ (by decide)]; exact hx) (d := d) (by omega)
  obtain ⟨i2, k1, k2, k3, k4, k5⟩ := kc_H (σ := i1) (by rw [j2 _ (by decide), hF _ (by decide)]; exact z2) (by rw [j2 _ (by decide), hF _ (by decide)]; exact z3) (d := d) (by omega)
  have FZ : fr (cwL ++ diC) g9 i2 := fr_trans (fr_sub j2 (mem_all (by decide))) (fr_sub k2 (mem_all (by decide)))
  refine ⟨i2, ?_, fr_trans (fr_sub hF (mem_all (by decide))) (fr_sub FZ (mem_all (by decide))), ⟨by rw [k2 _ (by decide)]; exact j3.1, by rw [k2 _ (by decide), j3.2, hF _ (by decide)]⟩, ⟨?_, ?_, ?_, ?_, ?_, ?_⟩, ⟨k3, k4, k5⟩, DL_f j4 k2 (by decide)⟩
  · unfold wC3
    rw [h0]
    rw [Option.bind_some]
    rw [h1]
    rw [Option.bind_some]
    rw [h2]
    rw [Option.bind_some]
    rw [h3]
    rw [Option.bind_some]
    rw [h4]
    rw [Option.bind_some]
    rw [h5]
    rw [Option.bind_some]
    rw [h6]
    rw [Option.bind_some]
    rw [h7]
    rw [Option.bind_some]
    rw [h8]
    rw [Option.bind_some]
    rw [h9]
    rw [Option.bind_some]
    rw [j1, k1]
  · rw [FZ _ (by decide)]; exact hA
  · rw [FZ _ (by decide)]; exact hA0
  · rw [FZ _ (by decide)]; exact hA1
  · rw [FZ _ (by decide)]; exact hA2
  · rw [FZ _ (by decide)]; exact hA3
  · rw [FZ _ (by decide)]; exact hA4
theorem k_clear {σ : ga_S} (hx : 0 ≤ σ fX_alloc 0 0) {d : Nat} (hd : 7 ≤ d) : ∃ σ', c_w_clear d σ = some (0, σ') ∧ fr clC σ σ' ∧ alR σ σ' 6 ∧ WB σ' := by
  obtain ⟨d, rfl⟩ : ∃ e, d = e + 1 + 1 := ⟨d - 2, by omega⟩
  obtain ⟨σ0, e0⟩ : ∃ x, x = ga_up (ga_up σ fD_used 0 0 0) fD_count 0 0 0 := ⟨_, rfl⟩
  have f0 : fr [fD_used, fD_count] σ σ0 := by rw [e0]; exact fr_trans (fr_u (by decide)) (fr_u (by decide))
  have f1 := wc0_fr σ0
  obtain ⟨z1, z2, z3, z4, z5, z6, z7, z8, z9, z10, z11, z12⟩ := wc0_v σ0
  obtain ⟨σ2, w1, w2, w3, w4⟩ := kc_74 (d + 1) 40 0 (by decide) (wc0 σ0)
  have D2 : DL σ2 [] := by
    have c0 : σ2 fD_count 0 0 = 0 := by rw [w2 _ (by decide), f1 _ (by decide), e0, up_eq]
    have u0 : σ2 fD_used 0 0 = 0 := by rw [w2 _ (by decide), f1 _ (by decide), e0, up_F (by decide), up_eq]
    exact ⟨⟨by omega, by omega, by omega, by omega, fun k h1 h2 => by omega⟩, c0, by rw [u0]; decide, fun k hk => absurd hk (Nat.not_lt_zero _)⟩
  obtain ⟨a, a1, a2, a3, a4, a5⟩ := kc_1 D2 (by rw [w2 _ (by decide)]; exact z1) (by rw [w2 _ (by decide)]; exact z2) (d := d + 1) (by omega)
  obtain ⟨b, b1, b2, b3, b4, b5, b6⟩ := kc_2 a3 (by rw [a2 _ (by decide), w2 _ (by decide)]; exact z5) (by rw [a2 _ (by decide), w2 _ (by decide)]; exact z4) (d := d + 1) (by omega)
  obtain ⟨c, c1, c2, c3, c4, c5, c6⟩ := kc_3 b3 (by rw [b2 _ (by decide), a2 _ (by decide), w2 _ (by decide), f1 _ (by decide), f0 _ (by decide)]; exact hx) (by rw [b2 _ (by decide), a2 _ (by decide), w2 _ (by decide)]; exact z9) (by rw [b2 _ (by decide), a2 _ (by decide), w2 _ (by decide)]; exact z11) (by rw [b2 _ (by decide), a2 _ (by decide), w2 _ (by decide)]; exact z12) (d := d + 1) (by omega)
  have G1 : fr (apC ++ enC) a c := fr_trans (fr_sub b2 (mem_all (by decide))) (fr_sub c2 (mem_all (by decide)))
  have G2 : fr (ktC ++ apC ++ enC) σ2 c := fr_trans (fr_sub a2 (mem_all (by decide))) (fr_sub G1 (mem_all (by decide)))
  have F1 : fr clC σ σ2 := fr_trans (fr_sub f0 (mem_all (by decide))) (fr_trans (fr_sub f1 (mem_all (by decide))) (fr_sub w2 (mem_all (by decide))))
  refine ⟨c, ?_, fr_trans F1 (fr_sub G2 (mem_all (by decide))), ⟨c3.1, by rw [c3.2, b2 _ (by decide), a2 _ (by decide), w2 _ (by decide), f1 _ (by decide), f0 _ (by decide)]⟩, ⟨?_, ?_, ?_, ?_, ?_, ?_⟩, ⟨?_, ?_, ?_, ?_⟩, ⟨?_, ?_, ?_, ?_, fun q h0 h1 => ?_⟩, ⟨?_, ?_, ?_, ?_, ?_⟩, fun r q h0 h1 h2 => ?_, ⟨?_, ?_, ?_⟩, ⟨?_, ?_, ?_, ?_⟩, c4, c5, c6⟩
  · rw [e_w_clear, e_d_clear, ← e0]
    show w_clear_74 (d + 1) (wc0 σ0) 0 = _
    have w1' : w_clear_74 (d + 1) (wc0 σ0) 0 = w_clear_74 (d + 1) σ2 40 := w1
    rw [w1', a1, b1, c1]
  · rw [G1 _ (by decide)]; exact a4.1
  · rw [G1 _ (by decide)]; exact a4.2.1
  · rw [G1 _ (by decide)]; exact a4.2.2.1
  · rw [G1 _ (by decide)]; exact a4.2.2.2.1
  · rw [G1 _ (by decide)]; exact a4.2.2.2.2.1
  · rw [G1 _ (by decide)]; exact a4.2.2.2.2.2
  · rw [G1 _ (by decide)]; exact a5.1
  · rw [G1 _ (by decide)]; exact a5.2.1
  · rw [G1 _ (by decide)]; exact a5.2.2
  · rw [G2 _ (by decide), w2 _ (by decide)]; exact z3
  · rw [c2 _ (by decide)]; exact b4.1
  · rw [c2 _ (by decide)]; exact b4.2.1
  · rw [c2 _ (by decide)]; exact b4.2.2.1
  · rw [c2 _ (by decide)]; exact b4.2.2.2.1
  · rw [c2 _ (by decide)]; exact b4.2.2.2.2 q h0 h1
  · rw [c2 _ (by decide)]; exact b5.1
  · rw [c2 _ (by decide)]; exact b5.2.1
  · rw [c2 _ (by decide)]; exact b5.2.2.1
  · rw [c2 _ (by decide)]; exact b5.2.2.2.1
  · rw [c2 _ (by decide)]; exact b5.2.2.2.2
  · rw [G2 fW_told (by decide), G2 fW_has (by decide)]
    exact w4 r q (by omega) h1 h2
  · rw [c2 _ (by decide)]; exact b6.1
  · rw [c2 _ (by decide)]; exact b6.2.1
  · rw [c2 _ (by decide)]; exact b6.2.2
  · rw [G2 _ (by decide), w2 _ (by decide)]; exact z6
  · rw [G2 _ (by decide), w2 _ (by decide)]; exact z7
  · rw [G2 _ (by decide), w2 _ (by decide)]; exact z8
  · rw [G2 _ (by decide), w2 _ (by decide)]; exact z10

/-! tokens between two places of a text -/
theorem s_t_inside_36 {σ : ga_S} {d : Nat} (hd : 3 ≤ d) {v : Int} (hT : tOk σ v) (h0 : σ fT_count v 0 = 0) (a s : Int) (N : Nat) (hN : vK σ v N = 7 ∨ vK σ v N = 8) (hb : ∀ j, j < N → vK σ v j ≠ 7 ∧ vK σ v j ≠ 8) : ∀ (m k : Nat), k + m = N → t_inside_36 d (stN σ v k) v a s = some (0, ga_up (ga_up (ga_up (stN σ v (N + 1)) fT_inText v 0 0) fT_at v 0 a) fT_size v 0 s) := by
  intro m
  induction m with
  | zero =>
    intro k hk
    have ek : k = N := by omega
    subst ek
    have st := stN_at σ v h0 k
    have K := vK_N (v := v) h0 k
    have hk5 := sP_k (B := σ fT_bytes v) (x := inT σ v) hT.2.2.2 k (fun j hj => hb j hj)
    have hr := (sP_r (B := σ fT_bytes v) (x := inT σ v) hT.2.2.2 k).2.1
    have h5 := hT.2.1
    obtain ⟨ρ, e1, e2, e3, e4⟩ := s_t_next' hd (tOk_N hT h0 k) (by rw [st.1]; omega)
    rw [e_t_inside_36, nn_ok _ hT.1, e1]; simp only [Option.bind_some]
    simp only [nn_ok _ hT.1]
    rw [e2, st.1, ck_ok _ (by omega), w32_ok (by omega), K.2.1]
    rw [st.1, K.2.1] at e3
    rw [e3]
    have fin : t_inside_79 d (st1 (stN σ v k) v) v a s = some (0, ga_up (ga_up (ga_up (stN σ v (k + 1)) fT_inText v 0 0) fT_at v 0 a) fT_size v 0 s) := by
      rw [e_t_inside_79, nn_ok _ hT.1, nn_ok _ hT.1, nn_ok _ hT.1]; rfl
    rcases hN with h | h
    · rw [if_neg (by omega), if_pos h, fin]
    · rw [if_pos h, fin]
  | succ m ih =>
    intro k hk
    have st := stN_at σ v h0 k
    have K := vK_N (v := v) h0 k
    have hk5 := sP_k (B := σ fT_bytes v) (x := inT σ v) hT.2.2.2 k (fun j hj => hb j (by omega))
    have hr := (sP_r (B := σ fT_bytes v) (x := inT σ v) hT.2.2.2 k).2.1
    have h5 := hT.2.1
    have b := hb k (by omega)
    obtain ⟨ρ, e1, e2, e3, e4⟩ := s_t_next' hd (tOk_N hT h0 k) (by rw [st.1]; omega)
    rw [e_t_inside_36, nn_ok _ hT.1, e1]; simp only [Option.bind_some]
    simp only [nn_ok _ hT.1]
    rw [e2, st.1, ck_ok _ (by omega), w32_ok (by omega), K.2.1]
    rw [st.1, K.2.1] at e3
    rw [e3, if_neg b.2, if_neg b.1]
    exact ih (k + 1) (by omega)
/-- tokens inside of a text -/
def inL : List Nat := [fT_places, fT_lengths, fT_wrong, fT_kinds, fT_count]
theorem s_t_inside {σ : ga_S} {d : Nat} (hd : 4 ≤ d) {v a n : Int} (hv : 0 ≤ v) (hA : rAll σ v) (hi : σ fT_inText v 0 = 0) (ha : 0 ≤ a) (hn : a ≤ n) (hn5 : n ≤ 5000) : ∃ σ' N, c_t_inside d σ v a n = some (0, σ') ∧ fr inL σ σ' ∧ (∀ F v', v' ≠ v → σ' F v' = σ F v') ∧ σ' fT_count v 0 = ((N + 1 : Nat) : Int) ∧ (N : Int) ≤ n ∧
    (sK (σ fT_bytes v) true n a N = 7 ∨ sK (σ fT_bytes v) true n a N = 8) ∧ (∀ j, j < N → sK (σ fT_bytes v) true n a j ≠ 7 ∧ sK (σ fT_bytes v) true n a j ≠ 8) ∧
    (∀ j : Nat, j ≤ N → σ' fT_kinds v j = sK (σ fT_bytes v) true n a j ∧ σ' fT_places v j = sP (σ fT_bytes v) true n a j ∧ σ' fT_lengths v j = sE (σ fT_bytes v) true n a j - sP (σ fT_bytes v) true n a j) ∧
    σ' fT_wrong v 0 = (if sK (σ fT_bytes v) true n a N = 7 then sP (σ fT_bytes v) true n a N else -1) := by
  obtain ⟨d, rfl⟩ : ∃ e, d = e + 1 := ⟨d - 1, by omega⟩
  rw [e_t_inside]
  simp only [nn_ok _ hv]
  have hρ : ∃ ρ, ρ = ga_up (ga_up (ga_up (ga_up (ga_up σ fT_at v 0 a) fT_size v 0 n) fT_inText v 0 1) fT_count v 0 0) fT_wrong v 0 (-1) := ⟨_, rfl⟩
  obtain ⟨ρ, eρ⟩ := hρ
  rw [← eρ]
  have rB : ρ fT_bytes = σ fT_bytes := by rw [eρ, up_F (by decide), up_F (by decide), up_F (by decide), up_F (by decide), up_F (by decide)]
  have rA : ρ fT_all = σ fT_all := by rw [eρ, up_F (by decide), up_F (by decide), up_F (by decide), up_F (by decide), up_F (by decide)]
  have rs : ρ fT_size v 0 = n := by rw [eρ, up_F (by decide), up_F (by decide), up_F (by decide), up_eq]
  have ra : ρ fT_at v 0 = a := by rw [eρ, up_F (by decide), up_F (by decide), up_F (by decide), up_F (by decide), up_eq]
  have ri : ρ fT_inText v 0 = 1 := by rw [eρ, up_F (by decide), up_F (by decide), up_eq]
  have rc : ρ fT_count v 0 = 0 := by rw [eρ, up_F (by decide), up_eq]
  have rw0 : ρ fT_wrong v 0 = -1 := by rw [eρ, up_eq]
  have iT : inT ρ v = true := by unfold inT; rw [ri]; decide
  have eK : vK ρ v = sK (σ fT_bytes v) true n a := by funext k; unfold vK; rw [rB, rs, ra, iT]
  have eP : vP ρ v = sP (σ fT_bytes v) true n a := by funext k; unfold vP; rw [rB, rs, ra, iT]
  have eE : vE ρ v = sE (σ fT_bytes v) true n a := by funext k; unfold vE; rw [rB, rs, ra, iT]
  have hT : tOk ρ v := ⟨hv, by rw [rs]; exact hn5, fun j h1 h2 => by rw [rA]; exact hA j h1 h2, by rw [ra]; exact ha, by rw [ra, rs]; exact hn⟩
  obtain ⟨N, hN, hb⟩ := least (P := fun k => vK ρ v k = 7 ∨ vK ρ v k = 8) (by
    obtain ⟨k, _, hk⟩ := sP_stop (B := ρ fT_bytes v) (x := inT ρ v) hT.2.2.2
    exact ⟨k, hk⟩)
  have hb' : ∀ j, j < N → vK ρ v j ≠ 7 ∧ vK ρ v j ≠ 8 := fun j hj => ⟨fun z => hb j hj (Or.inl z), fun z => hb j hj (Or.inr z)⟩
  have e := s_t_inside_36 (d := d) (by omega) hT rc (σ fT_at v 0) (σ fT_size v 0) N hN hb' N 0 (by omega)
  have s := stN_at ρ v rc (N + 1)
  have w := (stN_wrong ρ v rc N (fun j hj => (hb' j hj).1)).2
  have kN := sP_k (B := ρ fT_bytes v) (x := inT ρ v) hT.2.2.2 N (fun j hj => hb' j hj)
  have rN := (sP_r (B := ρ fT_bytes v) (x := inT ρ v) hT.2.2.2 N).2.1
  have f := stN_fr ρ v (N + 1)
  refine ⟨_, N, e, ?_, ?_, ?_, ?_, ?_, ?_, ?_, ?_⟩
  · intro F hF
    by_cases c1 : F = fT_size
    · subst c1
      funext n' i
      rw [up_nat]
      by_cases c : n' = v ∧ i = 0
      · rw [if_pos c, c.1, c.2]
      · rw [if_neg c, up_F (by decide), up_F (by decide), f fT_size (by decide), eρ, up_F (by decide), up_F (by decide), up_F (by decide), up_nat, if_neg c, up_F (by decide)]
    · rw [up_F c1]
      by_cases c2 : F = fT_at
      · subst c2
        funext n' i
        rw [up_nat]
        by_cases c : n' = v ∧ i = 0
        · rw [if_pos c, c.1, c.2]
        · rw [if_neg c, up_F (by decide)]
          by_cases c3 : n' = v
          · -- the place of at
            have hj : i ≠ 0 := fun z => c ⟨c3, z⟩
            have aux : ∀ k, (stN ρ v k) fT_at n' i = ρ fT_at n' i := by
              intro k
              induction k with
              | zero => rfl
              | succ k ih =>
                refine Eq.trans ?_ ih
                show (st1 (stN ρ v k) v) fT_at n' i = _
                unfold st1 NX
                rw [up_F (by decide), up_F (by decide), up_F (by decide), up_F (by decide), up_nat, if_neg (fun z => hj z.2), up_F (by decide)]
            rw [aux, eρ, up_F (by decide), up_F (by decide), up_F (by decide), up_F (by decide), up_nat, if_neg c]
          · rw [stN_o ρ v fT_at n' c3, eρ, up_F (by decide), up_F (by decide), up_F (by decide), up_F (by decide), up_nat, if_neg c]
      · rw [up_F c2]
        by_cases c3 : F = fT_inText
        · subst c3
          funext n' i
          rw [up_nat]
          by_cases c : n' = v ∧ i = 0
          · rw [if_pos c, c.1, c.2, hi]
          · rw [if_neg c, f fT_inText (by decide), eρ, up_F (by decide), up_F (by decide), up_nat, if_neg c, up_F (by decide), up_F (by decide)]
        · rw [up_F c3]
          have hm : F ∉ tkL := by
            intro z
            simp only [tkL, List.mem_cons, List.not_mem_nil, or_false] at z
            simp only [inL, List.mem_cons, List.not_mem_nil, or_false] at hF
            rcases z with z | z | z | z | z | z
            · exact hF (Or.inl z)
            · exact c2 z
            · exact hF (Or.inr (Or.inl z))
            · exact hF (Or.inr (Or.inr (Or.inl z)))
            · exact hF (Or.inr (Or.inr (Or.inr (Or.inl z))))
            · exact hF (Or.inr (Or.inr (Or.inr (Or.inr z))))
          have h1 : F ≠ fT_wrong := fun z => hm (by rw [z]; decide)
          have h2 : F ≠ fT_count := fun z => hm (by rw [z]; decide)
          rw [f F hm, eρ, up_F h1, up_F h2, up_F c3, up_F c1, up_F c2]
  · intro F v' h
    have o1 : ∀ (ρ' : ga_S) (x y z : Int), ga_up (ga_up (ga_up ρ' fT_inText v 0 x) fT_at v 0 y) fT_size v 0 z F v' = ρ' F v' := by
      intro ρ' x y z
      funext i
      unfold ga_up
      rw [if_neg (fun z => h z.2.1), if_neg (fun z => h z.2.1), if_neg (fun z => h z.2.1)]
    rw [o1, stN_o ρ v F v' h, eρ]
    funext i
    unfold ga_up
    rw [if_neg (fun z => h z.2.1), if_neg (fun z => h z.2.1), if_neg (fun z => h z.2.1), if_neg (fun z => h z.2.1), if_neg (fun z => h z.2.1)]
  · rw [up_F (by decide), up_F (by decide), up_F (by decide)]; exact s.1
  · rw [rs] at rN kN; omega
  · rw [eK] at hN; exact hN
  · rw [eK] at hb'; exact hb'
  · intro j hj
    rw [up_F (by decide), up_F (by decide), up_F (by decide), up_F (by decide), up_F (by decide), up_F (by decide), up_F (by decide), up_F (by decide), up_F (by decide)]
    have := s.2.2.2 j (by omega)
    rw [eK, eP, eE] at this
    exact this
  · rw [up_F (by decide), up_F (by decide), up_F (by decide), w, eK, eP, rw0]

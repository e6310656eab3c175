/-! the act of a plural that is told -/
theorem sM_inj {s n s2 n2 : Int} (b : 0 ≤ s ∧ s ≤ 12 ∧ s ≠ 10) (b2 : 0 ≤ s2 ∧ s2 ≤ 12 ∧ s2 ≠ 10) (q : s = 11 → n < 16 ∨ 100 ≤ n) (q2 : s2 = 11 → n2 < 16 ∨ 100 ≤ n2) (e3 : sM s n = sM s2 n2) (e4 : iM s n = iM s2 n2) : s = s2 ∧ n = n2 := by
  have z : s2 = 0 ∨ s2 = 1 ∨ s2 = 2 ∨ s2 = 3 ∨ s2 = 4 ∨ s2 = 5 ∨ s2 = 6 ∨ s2 = 7 ∨ s2 = 8 ∨ s2 = 9 ∨ s2 = 11 ∨ s2 = 12 := by omega
  have z' : s = 0 ∨ s = 1 ∨ s = 2 ∨ s = 3 ∨ s = 4 ∨ s = 5 ∨ s = 6 ∨ s = 7 ∨ s = 8 ∨ s = 9 ∨ s = 11 ∨ s = 12 := by omega
  have inv : ∀ x y : Int, (x = 0 ∨ x = 1 ∨ x = 2 ∨ x = 3 ∨ x = 4 ∨ x = 5 ∨ x = 6 ∨ x = 7 ∨ x = 8 ∨ x = 9 ∨ x = 11 ∨ x = 12) → x = (if sM x y = 0 then 0 else if sM x y = 2 then 1 else if sM x y = 4 then 2 else if sM x y = 5 then 3 else if sM x y = 6 then 4 else if sM x y = 7 then 5 else if sM x y = 8 then 6 else if sM x y = 9 then 7 else if sM x y = 11 then 8 else if sM x y = 12 then 9 else if sM x y = 10 then 12 else 11) := by
    intro x y hx
    unfold sM
    rcases hx with rfl | rfl | rfl | rfl | rfl | rfl | rfl | rfl | rfl | rfl | rfl | rfl <;> simp
    by_cases c : y < 100
    · simp [c]
    · simp [c]
  have es : s = s2 := by rw [inv s n z', inv s2 n2 z, e3]
  refine ⟨es, ?_⟩
  unfold iM at e4
  unfold sM at e3
  rw [es] at e3 e4 q
  by_cases c : s2 = 11
  · rw [c] at e3 e4
    simp at e3 e4
    have q1 := q c
    have q3 := q2 c
    by_cases c1 : 100 ≤ n <;> by_cases c2 : 100 ≤ n2
    · rw [if_pos c1, if_pos c2] at e4; omega
    · exfalso; rw [if_neg (by omega), if_pos (by omega)] at e3; omega
    · exfalso; rw [if_pos (by omega), if_neg (by omega)] at e3; omega
    · rw [if_neg c1, if_neg c2] at e4; omega
  · rw [if_neg (fun v => c v.1), if_neg (fun v => c v.1)] at e4; omega
theorem m_lexOf {τ : ga_S} (hl : τ fM_lexes 0 0 ≤ 300) (s i : Int) {d : Nat} (hd : 1 ≤ d) : ∃ l, c_m_lexOf d τ s i = some (l, τ) ∧ ((l = -1 ∧ ∀ k, 0 ≤ k → k < τ fM_lexes 0 0 → ¬ (τ fM_lexSort 0 k = s ∧ τ fM_lexIndex 0 k = i)) ∨ (0 ≤ l ∧ l < τ fM_lexes 0 0 ∧ τ fM_lexSort 0 l = s ∧ τ fM_lexIndex 0 l = i)) := by
  obtain ⟨d, rfl⟩ : ∃ e, d = e + 1 := ⟨d - 1, by omega⟩
  have main : ∀ k, 0 ≤ k → ∃ l, m_lexOf_2 d τ s i k = some (l, τ) ∧ ((l = -1 ∧ ∀ j, k ≤ j → j < τ fM_lexes 0 0 → ¬ (τ fM_lexSort 0 j = s ∧ τ fM_lexIndex 0 j = i)) ∨ (0 ≤ l ∧ l < τ fM_lexes 0 0 ∧ τ fM_lexSort 0 l = s ∧ τ fM_lexIndex 0 l = i)) := by
    refine rg_ind (n := τ fM_lexes 0 0) ?_ ?_
    · intro k h h0
      exact ⟨-1, by rw [e_m_lexOf_2, if_neg (by omega)], Or.inl ⟨rfl, fun j j0 j1 => by omega⟩⟩
    · intro k h ih h0
      obtain ⟨l, a1, a2⟩ := ih (by omega)
      have nx : m_lexOf_32 d τ s i k = some (l, τ) := by rw [e_m_lexOf_32, w32_ok (x := k + 1) (by omega), a1]
      by_cases c : τ fM_lexSort 0 k = s ∧ τ fM_lexIndex 0 k = i
      · exact ⟨k, by rw [e_m_lexOf_2, if_pos h, ck_ok _ (by omega), if_pos c.1, ck_ok _ (by omega), if_pos c.2], Or.inr ⟨h0, h, c.1, c.2⟩⟩
      · refine ⟨l, ?_, ?_⟩
        · rw [e_m_lexOf_2, if_pos h, ck_ok _ (by omega)]
          by_cases c1 : τ fM_lexSort 0 k = s
          · rw [if_pos c1, ck_ok _ (by omega), if_neg (fun z => c ⟨c1, z⟩), nx]
          · rw [if_neg c1, nx]
        · rcases a2 with a2 | a2
          · refine Or.inl ⟨a2.1, fun j j0 j1 => ?_⟩
            by_cases e : j = k
            · rw [e]; exact c
            · exact a2.2 j (by omega) j1
          · exact Or.inr a2
  obtain ⟨l, a1, a2⟩ := main 0 (Int.le_refl _)
  exact ⟨l, by rw [e_m_lexOf, a1], a2⟩
/-- an old plural makes room for a new one -/
theorem DW_over {σ τ σ1 σ' τ2 τ' : ga_S} {g : Int} (D : DW σ τ g) (hg : g + 1 ≤ 380) {L : List Int} {W : List (List Int)} {n k0 l : Int} (lk : live σ k0) (s0 : σ fD_sorts 0 k0 = 11) (n0 : σ fD_numbers 0 k0 = n) (hl : 0 ≤ l ∧ l < τ fM_lexes 0 0) (el : eM σ τ k0 l) (e1 : σ1 = ga_up σ fD_sorts 0 k0 (-1)) (T : DT σ1 σ' L 11 n) (M : MT (ga_up τ fM_lexes 0 0 l) τ2 W 0 (sM 11 n) (iM 11 n)) (e2 : τ' = ga_up τ2 fM_lexes 0 0 (τ fM_lexes 0 0)) (hW : wsW W) (h1 : 1 ≤ W.length) (h3 : W.length ≤ 3) (eL : L = jn W) (hL : L.length ≤ 40) (new : fnd σ L 0 = -1) : DW σ' τ' (g + 1) := by
  obtain ⟨R, Wd, Wl, db, B, _⟩ := D
  have P11 := p11 B Wd
  obtain ⟨r1, r2, r3, r4, r5, r6, r7, r8⟩ := R
  have f1 : fr [fD_sorts] σ σ1 := by rw [e1]; exact fr_u (by decide)
  have so1 : ∀ k, σ1 fD_sorts 0 k = if k = k0 then -1 else σ fD_sorts 0 k := by intro k; rw [e1, up_at]
  have en1 : ∀ k, ent σ1 k = ent σ k := by
    intro k; unfold ent; rw [f1 fD_sizes (by decide), f1 fD_letters (by decide), f1 fD_froms (by decide)]
  have wf1 : wfD σ1 := by
    unfold wfD at r1 ⊢
    rw [f1 fD_count (by decide), f1 fD_used (by decide), f1 fD_froms (by decide), f1 fD_sizes (by decide)]
    exact r1
  have ct : σ1 fD_count 0 0 = σ fD_count 0 0 := by rw [f1 _ (by decide)]
  have c0 := r1.1
  have lv : ∀ k, live σ' k ↔ ((live σ k ∧ k ≠ k0) ∨ k = σ fD_count 0 0) := by
    intro k
    rw [DT_live wf1 T (by decide) k, ct]
    unfold live
    rw [ct, so1]
    constructor
    · intro h
      rcases h with h | h
      · by_cases c : k = k0
        · rw [if_pos c] at h; exact absurd rfl h.2.2
        · rw [if_neg c] at h; exact Or.inl ⟨h, c⟩
      · exact Or.inr h
    · intro h
      rcases h with h | h
      · rw [if_neg h.2]; exact Or.inl h.1
      · exact Or.inr h
  obtain ⟨tf, t1, t2, t3, t4, t5, t6, t7, t8⟩ := T
  rw [ct] at t2 t4 t5 t6 t7 t8
  have old : ∀ k, live σ k → k ≠ k0 → ent σ' k = ent σ k ∧ σ' fD_sorts 0 k = σ fD_sorts 0 k ∧ σ' fD_numbers 0 k = σ fD_numbers 0 k ∧ σ' fD_sizes 0 k = σ fD_sizes 0 k := by
    intro k lk' c
    have := t4 k lk'.1 lk'.2.1
    rw [en1, so1, if_neg c, f1 fD_numbers (by decide), f1 fD_sizes (by decide)] at this
    exact this
  obtain ⟨mf, m1, m2, m3, m4, m5, m6, m7⟩ := M
  have lx : (ga_up τ fM_lexes 0 0 l) fM_lexes 0 0 = l := up_eq ..
  rw [lx] at m1 m2 m3 m4 m5 m6 m7
  have tl : τ' fM_lexes 0 0 = τ fM_lexes 0 0 := by rw [e2, up_eq]
  have f2 : fr [fM_lexes] τ2 τ' := by rw [e2]; exact fr_u (by decide)
  have mold : ∀ k, 0 ≤ k → k ≠ l → τ' fM_lexSize 0 k = τ fM_lexSize 0 k ∧ τ' fM_lexSort 0 k = τ fM_lexSort 0 k ∧ τ' fM_lexIndex 0 k = τ fM_lexIndex 0 k ∧ τ' fM_lexLong 0 k = τ fM_lexLong 0 k ∧ (∀ i, 0 ≤ i → i < 3 → τ' fM_lexWord 0 (3 * k + i) = τ fM_lexWord 0 (3 * k + i)) := by
    intro k z0 z1
    have := m2 k z0 z1
    rw [f2 fM_lexSize (by decide), f2 fM_lexSort (by decide), f2 fM_lexIndex (by decide), f2 fM_lexLong (by decide), f2 fM_lexWord (by decide)]
    rw [up_F (by decide), up_F (by decide), up_F (by decide), up_F (by decide), up_F (by decide)] at this
    exact this
  have n200 := r8 k0 lk
  -- only k0 has entry l
  have only : ∀ k, live σ k → eM σ τ k l → k = k0 := by
    intro k lk' e
    obtain ⟨V, _, _, _, _, _, _, v7, v8⟩ := e
    obtain ⟨V', _, _, _, _, _, _, w7, w8⟩ := el
    have b := r8 k lk'
    have i := sM_inj (s := σ fD_sorts 0 k) (n := σ fD_numbers 0 k) (s2 := σ fD_sorts 0 k0) (n2 := σ fD_numbers 0 k0) ⟨b.1, b.2.1, b.2.2.1⟩ ⟨n200.1, n200.2.1, n200.2.2.1⟩ (P11 k lk') (P11 k0 lk) (by rw [← v7, ← w7]) (by rw [← v8, ← w8])
    exact r7 k k0 lk' lk i.1 i.2
  have eOld : ∀ k k', live σ k → k ≠ k0 → 0 ≤ k' → eM σ τ k k' → eM σ' τ' k k' ∧ k' ≠ l := by
    intro k k' lk' c h0 e
    have kl : k' ≠ l := fun z => by rw [z] at e; exact c (only k lk' e)
    refine ⟨?_, kl⟩
    obtain ⟨V, v1, v2, v3, v4, v5, v6, v7, v8⟩ := e
    obtain ⟨a1, a2, a3, a4, a5⟩ := mold k' h0 kl
    obtain ⟨b1, b2, b3, _⟩ := old k lk' c
    refine ⟨V, v1, v2, v3, by rw [a1]; exact v4, fun q => ?_, by rw [a4, b1]; exact v6, by rw [a2, b2, b3]; exact v7, by rw [a3, b2, b3]; exact v8⟩
    intro i hi
    rw [a4, b2] at q
    rw [a5 i (by omega) (by omega)]; exact v5 q i hi
  have eNew : eM σ' τ' (σ fD_count 0 0) l := by
    refine ⟨W, hW, h1, h3, by rw [f2 _ (by decide)]; exact m3.symm, fun _ i hi => by rw [f2 _ (by decide)]; exact m7 (Or.inl rfl) i hi, Or.inl ⟨by rw [f2 _ (by decide)]; exact m6, by rw [t5]; exact eL⟩, by rw [f2 _ (by decide), m4, t6, t7], by rw [f2 _ (by decide), m5, t6, t7]⟩
  have noN : ∀ k, live σ k → ent σ k ≠ L := fun k lk' => fnd_n new k lk'.1 lk'.2.1 lk'.2.2
  have RD' : RD σ' τ' := by
    refine ⟨t1, by omega, by omega, ?_, ?_, ?_, ?_, ?_⟩
    · intro k' h0 hk'
      rw [tl] at hk'
      by_cases c : k' = l
      · rw [c]; exact ⟨_, (lv _).mpr (Or.inr rfl), eNew⟩
      · obtain ⟨k, lk', e⟩ := r4 k' h0 hk'
        have kk : k ≠ k0 := by
          intro z
          obtain ⟨V, _, _, _, _, _, _, v7, v8⟩ := e
          obtain ⟨V', _, _, _, _, _, _, w7, w8⟩ := el
          rw [z] at v7 v8
          exact c (db.2.2.1 k' l h0 hk' hl.1 hl.2 (by rw [v7, w7]) (by rw [v8, w8]))
        exact ⟨k, (lv _).mpr (Or.inl ⟨lk', kk⟩), (eOld k k' lk' kk h0 e).1⟩
    · intro k lk'
      rw [tl]
      rcases (lv _).mp lk' with ⟨a, c⟩ | a
      · obtain ⟨k', h0, hk', e⟩ := r5 k a
        exact ⟨k', h0, hk', (eOld k k' a c h0 e).1⟩
      · rw [a]; exact ⟨l, hl.1, hl.2, eNew⟩
    · intro k j lk' lj e
      rcases (lv _).mp lk' with ⟨a, c⟩ | a <;> rcases (lv _).mp lj with ⟨a2, c2⟩ | a2
      · rw [(old k a c).1, (old j a2 c2).1] at e; exact r6 k j a a2 e
      · exfalso; rw [(old k a c).1, a2, t5] at e; exact noN k a e
      · exfalso; rw [(old j a2 c2).1, a, t5] at e; exact noN j a2 e.symm
      · rw [a, a2]
    · intro k j lk' lj e e'
      rcases (lv _).mp lk' with ⟨a, c⟩ | a <;> rcases (lv _).mp lj with ⟨a2, c2⟩ | a2
      · rw [(old k a c).2.1, (old j a2 c2).2.1] at e
        rw [(old k a c).2.2.1, (old j a2 c2).2.2.1] at e'
        exact r7 k j a a2 e e'
      · exfalso
        rw [(old k a c).2.1, a2, t6] at e
        rw [(old k a c).2.2.1, a2, t7] at e'
        exact c (r7 k k0 a lk (by rw [e, s0]) (by rw [e', n0]))
      · exfalso
        rw [(old j a2 c2).2.1, a, t6] at e
        rw [(old j a2 c2).2.2.1, a, t7] at e'
        exact c2 (r7 j k0 a2 lk (by rw [← e, s0]) (by rw [← e', n0]))
      · rw [a, a2]
    · intro k lk'
      rcases (lv _).mp lk' with ⟨a, c⟩ | a
      · obtain ⟨_, b2, b3, b4⟩ := old k a c
        rw [b2, b3, b4]; exact r8 k a
      · rw [a, t6, t7, t8]
        exact ⟨by decide, by decide, by decide, by omega, by omega, by omega⟩
  have fs : fr (dicL ++ spL) σ σ' := fr_trans (fr_sub f1 (by decide)) tf
  have em : ∀ x, mxN σ' x = mxN σ x := by
    intro x
    unfold mxN
    rw [fs fW_kinds (by decide), fs fW_types (by decide), fs fW_objects (by decide), fs fW_adjectives (by decide), fs fW_values (by decide), fs fW_properties (by decide), fs fW_relations (by decide), fs fW_verbs (by decide), fs fW_actions (by decide)]
  refine ⟨RD', fun k lk' => ?_, fun V v1 v2 v3 => ?_, ⟨?_, ?_, ?_, by have := db.2.2.2; omega⟩, ?_, hg⟩
  · rw [em, fs fW_kinds (by decide), fs fW_types (by decide)]
    rcases (lv _).mp lk' with ⟨a, c⟩ | a
    · obtain ⟨_, b2, b3, _⟩ := old k a c
      rw [b2, b3]; exact Wd k a
    · rw [a, t6, t7]
      have := Wd k0 lk
      rw [s0, n0] at this
      exact this
  · have o := (fnd_r (σ := σ') (nm := jn V ++ [115]) (Int.le_refl 0)).resolve_left v3
    have a : live σ (fnd σ' (jn V ++ [115]) 0) ∧ fnd σ' (jn V ++ [115]) 0 ≠ k0 := by
      rcases (lv _).mp ⟨o.1, o.2.1, o.2.2.1⟩ with a | a
      · exact a
      · exfalso
        have z := o.2.2.2
        rw [a, t5, eL] at z
        exact jn_no13 hW V v1 v2 z.symm
    have e := o.2.2.2
    rw [(old _ a.1 a.2).1] at e
    have w := Wl V v1 v2 (fun z => fnd_n z _ a.1.1 a.1.2.1 a.1.2.2 e)
    have x := (fnd_r (σ := σ) (nm := jn V) (Int.le_refl 0)).resolve_left w.1
    have xl : live σ (fnd σ (jn V) 0) := ⟨x.1, x.2.1, x.2.2.1⟩
    have xk : fnd σ (jn V) 0 ≠ k0 := fun z => w.2 (by rw [z]; exact s0)
    have y := old _ xl xk
    have yl := (lv _).mpr (Or.inl ⟨xl, xk⟩)
    have ff : fnd σ' (jn V) 0 = fnd σ (jn V) 0 := by
      have := RD_fnd RD' yl
      rw [y.1, x.2.2.2] at this
      exact this
    rw [ff, y.2.1]
    exact ⟨w.1, w.2⟩
  · rw [t2, tl]; have := db.1; omega
  · rw [t2, t3, f1 fD_used (by decide)]; have := db.2.1; omega
  · intro k j k0' hk j0 hj q1 q2
    rw [tl] at hk hj
    have sl : τ' fM_lexSort 0 l = τ fM_lexSort 0 l ∧ τ' fM_lexIndex 0 l = τ fM_lexIndex 0 l := by
      obtain ⟨V', _, _, _, _, _, _, w7, w8⟩ := el
      rw [f2 fM_lexSort (by decide), f2 fM_lexIndex (by decide), m4, m5, w7, w8, s0, n0]
      exact ⟨rfl, rfl⟩
    have all : ∀ z, 0 ≤ z → τ' fM_lexSort 0 z = τ fM_lexSort 0 z ∧ τ' fM_lexIndex 0 z = τ fM_lexIndex 0 z := by
      intro z z0
      by_cases c : z = l
      · rw [c]; exact sl
      · have := mold z z0 c
        exact ⟨this.2.1, this.2.2.1⟩
    rw [(all k k0').1, (all j j0).1] at q1
    rw [(all k k0').2, (all j j0).2] at q2
    exact db.2.2.1 k j k0' hk j0 hj q1 q2
  · unfold cB
    rw [fs fW_kinds (by decide), fs fW_objects (by decide), fs fW_adjectives (by decide), fs fW_types (by decide), fs fW_values (by decide), fs fW_properties (by decide), fs fW_relations (by decide), fs fW_verbs (by decide), fs fW_actions (by decide)]
    exact B

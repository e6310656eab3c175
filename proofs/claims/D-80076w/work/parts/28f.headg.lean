/-! the head of a rule: what both sides keep of it -/
/-- an adjective as the model keeps it, where it fits -/
def adjO (σ0 : ga_S) (kind : Int) (df : Bool) (x : Int) : Prop := (0 ≤ x ∧ x < σ0 fW_adjectives 0 0 ∧ fitA σ0 kind x df = true) ∨ ∃ v p, x = 100 + 100 * v + p ∧ (0 ≤ v ∧ v < σ0 fW_values 0 0) ∧ (0 ≤ p ∧ p < σ0 fW_properties 0 0) ∧ own σ0 kind p = true ∧ σ0 fW_valueTypes 0 v = σ0 fW_propertyTypes 0 p
section
variable {σ0 τ0 : ga_S} {f : Int} {N : Nat}
theorem aL_ok (E : E0 σ0 τ0 f N) {nm : List Int} {kind : Int} {nv df : Bool} {c : Int} (h : c ∈ aL σ0 nm kind nv df) : adjO σ0 kind df c := by
  unfold aL at h
  by_cases d3 : dN σ0 nm 3 = -1
  · rw [if_pos d3] at h
    have fr4 := fvN_r E nm nv
    obtain ⟨v, ev⟩ : ∃ z, z = fvN σ0 nm nv := ⟨_, rfl⟩
    rw [← ev] at h fr4
    by_cases fv : v = -1
    · rw [if_pos fv] at h; cases h
    · rw [if_neg fv] at h
      have m := List.mem_replicate.mp h
      obtain ⟨l, el⟩ : ∃ z, z = plV σ0 kind v := ⟨_, rfl⟩
      rw [← el] at m
      cases hl : l with
      | nil => rw [hl] at m; exact absurd rfl m.1
      | cons p r =>
        rw [hl] at m
        have pm : p ∈ plV σ0 kind v := by rw [← el, hl]; exact List.mem_cons_self ..
        have pr := PL_mem pm
        unfold plV PL at pm
        have := (List.mem_filter.mp pm).2
        simp only [Bool.and_eq_true, decide_eq_true_eq] at this
        exact Or.inr ⟨v, p, m.2, fr4.resolve_left fv, pr, this.2, this.1.symm⟩
  · rw [if_neg d3] at h
    by_cases ft : fitA σ0 kind (dN σ0 nm 3) df = true
    · rw [if_pos ft] at h
      have e := List.mem_singleton.mp h
      have r3 := e0_dN E nm 3
      have m3 : mxN σ0 3 = σ0 fW_adjectives 0 0 := rfl
      rw [e]
      exact Or.inl ⟨by omega, by omega, ft⟩
    · rw [if_neg ft] at h; cases h
theorem rdF_ok (E : E0 σ0 τ0 f N) {kind : Int} {df : Bool} : ∀ (k : Nat) (a b : Int) (L : List Int), L ∈ rdF σ0 kind df k a b → ∀ x, x ∈ L → adjO σ0 kind df x := by
  intro k
  induction k with
  | zero =>
    intro a b L h x hx
    unfold rdF at h
    by_cases c : a = b
    · rw [if_pos c] at h
      have e := List.mem_singleton.mp h
      rw [e] at hx; cases hx
    · rw [if_neg c] at h; cases h
  | succ k ih =>
    intro a b L h x hx
    unfold rdF at h
    by_cases c : a = b
    · rw [if_pos c] at h
      have e := List.mem_singleton.mp h
      rw [e] at hx; cases hx
    · rw [if_neg c] at h
      obtain ⟨m, _, hm⟩ := List.mem_flatMap.mp h
      by_cases c2 : a + m ≤ b
      · rw [if_pos c2] at hm
        obtain ⟨y, hy, hL⟩ := List.mem_flatMap.mp hm
        obtain ⟨L', hL', e⟩ := List.mem_map.mp hL
        rw [← e] at hx
        rcases List.mem_cons.mp hx with z | z
        · rw [z]; exact aL_ok E hy
        · exact ih _ _ L' hL' x z
      · rw [if_neg c2] at hm; cases hm
theorem dsA_ok (E : E0 σ0 τ0 f N) {pl df : Bool} {al a b : Int} {P : Int × List Int} (h : P ∈ dsA σ0 pl df al a b) : ∀ x, x ∈ P.2 → adjO σ0 P.1 df x := by
  unfold dsA at h
  by_cases c : 6 < b - a
  · rw [if_pos c] at h; cases h
  · rw [if_neg c] at h
    obtain ⟨m, _, hm⟩ := List.mem_flatMap.mp h
    unfold dsM at hm
    by_cases c2 : a + m ≤ b ∧ okK σ0 (dkN σ0 (nmT σ0 (b - m) b) pl) al = true
    · rw [if_pos c2] at hm
      obtain ⟨L, hL, e⟩ := List.mem_map.mp hm
      rw [← e]
      exact rdF_ok E 5 _ _ L hL
    · rw [if_neg c2] at hm; cases hm
theorem ac1_u {rl : Bool} {a b x y x' y' : Int} (h : ac1 σ0 rl a b x y) (g : ac1 σ0 rl a b x' y') : x = x' ∧ y = y' := by
  rcases h with h | h
  · rcases g with g | g
    · exact ⟨h.2.1.trans g.2.1.symm, h.2.2.trans g.2.2.symm⟩
    · rw [h.1] at g; cases g.1
  · rcases g with g | g
    · rw [g.1] at h; cases h.1
    · obtain ⟨_, m, h1, h2, h3⟩ := h
      obtain ⟨_, m', g1, g2, g3⟩ := g
      rw [h1] at g1
      have em : m = m' := (List.cons.inj g1).1
      subst em
      exact ⟨h2.trans g2.symm, h3.trans g3.symm⟩
/-- what both sides keep of a head -/
def hdG (σ0 : ga_S) (nk : Int) (σ τ : ga_S) (n l : Int) : Prop :=
  τ fM_ruleAction 0 l = σ fQ_action n 0 ∧ (0 ≤ σ fQ_action n 0 ∧ σ fQ_action n 0 < σ0 fW_actions 0 0) ∧ τ fM_ruleObject 0 l = σ fQ_object n 0 ∧ τ fM_ruleKind 0 l = σ fQ_kind n 0 ∧ τ fM_ruleAdjectives 0 l = σ fQ_adjectives n 0 ∧
  ((σ fQ_object n 0 = -1 ∧ σ fQ_kind n 0 = -1 ∧ σ fQ_adjectives n 0 = 0 ∧ nk = (if σ0 fW_actionKinds 0 (σ fQ_action n 0) < 0 then -1 else σ0 fW_actionKinds 0 (σ fQ_action n 0))) ∨
   ((0 ≤ σ fQ_object n 0 ∧ σ fQ_object n 0 < σ0 fW_objects 0 0) ∧ σ fQ_kind n 0 = -1 ∧ σ fQ_adjectives n 0 = 0 ∧ 0 ≤ σ0 fW_actionKinds 0 (σ fQ_action n 0) ∧ isB (σ0 fW_parents 0) (σ0 fW_kindOf 0 (σ fQ_object n 0)) (σ0 fW_actionKinds 0 (σ fQ_action n 0)) = true ∧ nk = σ0 fW_kindOf 0 (σ fQ_object n 0)) ∨
   (σ fQ_object n 0 = -1 ∧ (0 ≤ σ fQ_kind n 0 ∧ σ fQ_kind n 0 < σ0 fW_kinds 0 0) ∧ 0 ≤ σ0 fW_actionKinds 0 (σ fQ_action n 0) ∧ isB (σ0 fW_parents 0) (σ fQ_kind n 0) (σ0 fW_actionKinds 0 (σ fQ_action n 0)) = true ∧ nk = σ fQ_kind n 0 ∧
     ∃ L : List Int, (L.length : Int) = σ fQ_adjectives n 0 ∧ L.length ≤ 5 ∧ (∀ x, x ∈ L → adjO σ0 (σ fQ_kind n 0) true x) ∧ ∀ i : Nat, i < L.length → rdR (σ fQ_which n i) (σ fQ_values n i) (L.getD i 0) ∧ τ fM_ruleAdjective 0 (6 * l + i) = L.getD i 0))
theorem he_hdG (E : E0 σ0 τ0 f N) {two : Bool} {x0 y0 x1 y1 n l nk nk' : Int} {σ τ : ga_S} (Q : heQ σ0 two x0 y0 x1 y1 σ n nk) (M : heM σ0 two x0 y0 x1 y1 τ l nk') : nk = nk' ∧ hdG σ0 nk σ τ n l := by
  rcases Q with ⟨t, q1, q2, q3, q4⟩ | ⟨t, q1, q2, q3, Q⟩
  · rcases M with ⟨_, m1, m2, m3, m4⟩ | ⟨t', _⟩
    · have u := ac1_u q1 m1
      have r := ac1_r E q1
      rw [← u.1, ← u.2] at m4
      refine ⟨q4.trans m4.symm, u.1.symm, r.1, u.2.symm, by rw [m2, q2], by rw [m3, q3], ?_⟩
      by_cases z : σ fQ_object n 0 = -1
      · refine Or.inl ⟨z, q2, q3, ?_⟩
        rw [q4]; unfold nkO; rw [if_pos z]
      · have r2 := r.2.1.resolve_left z
        refine Or.inr (Or.inl ⟨⟨r2.1, r2.2.1⟩, q2, q3, r2.2.2.1, r2.2.2.2 rfl, ?_⟩)
        rw [q4]; unfold nkO; rw [if_neg z]
    · rw [t] at t'; cases t'
  · rcases M with ⟨t', _⟩ | ⟨_, m1, m2, m3, M⟩
    · rw [t] at t'; cases t'
    · have xr := (acX_r E x0 y0).resolve_left q2
      have ek : σ0 fW_actionKinds 0 (σ fQ_action n 0) = hdKd σ0 x0 y0 := by rw [q1]; rfl
      rcases Q with ⟨z, a1, a2, a3, a4⟩ | ⟨z, a1, P, a2, a3, a4, a5, a6⟩
      · rcases M with ⟨_, b1, b2, b3, b4⟩ | ⟨z', _⟩
        · have wr := (whO_r E (hdKd σ0 x0 y0) x1 y1).resolve_left z
          refine ⟨a4.trans b4.symm, by rw [m1, q1], by rw [q1]; omega, by rw [b1, a1], by rw [b2, a2], by rw [b3, a3], Or.inr (Or.inl ⟨by rw [a1]; omega, a2, a3, by rw [ek]; exact q3, by rw [ek, a1]; exact wr.2.2.2, by rw [a1]; exact a4⟩)⟩
        · exact absurd z' z
      · rcases M with ⟨z', _⟩ | ⟨_, b1, P', b2, b3, b4, b5, b6⟩
        · exact absurd z z'
        · rw [a2] at b2
          have eP : P = P' := (List.cons.inj b2).1
          subst eP
          have mem : P ∈ dsA σ0 false true (hdKd σ0 x0 y0) x1 y1 := by
            have : whD σ0 (hdKd σ0 x0 y0) x1 y1 = dsA σ0 false true (hdKd σ0 x0 y0) x1 y1 := rfl
            rw [← this, a2]; exact List.mem_singleton.mpr rfl
          have dk := dsA_k E mem
          have dok := dsA_ok E mem
          refine ⟨a6.trans b6.symm, by rw [m1, q1], by rw [q1]; omega, by rw [b1, a1], by rw [b3, a3], by rw [b4, a4], Or.inr (Or.inr ⟨a1, by rw [a3]; exact dk.1, by rw [ek]; exact q3, ?_, by rw [a3]; exact a6, P.2, a4.symm, dk.2.2, by rw [a3]; exact dok, fun i hi => ⟨a5 i hi, b5 i hi⟩⟩)⟩
          rw [ek, a3]
          rcases dk.2.1 with v | v
          · omega
          · exact v
end

/-! what phrases change in the world, on both sides -/
def wpC : List Nat := [fW_placed, fW_placeAt, fW_told, fW_has, fW_numbers, fW_lengths, fW_related]
def wpM : List Nat := [fM_way, fM_there, fM_objectIs, fM_objectTold, fM_objectSays, fM_objectLong, fM_related, fM_numberLong]
section
variable {σ τ σ1 τ1 : ga_S} {g : Int}
theorem SX_w (h : SX σ τ g) (f1 : fr wpC σ σ1) (f2 : fr wpM τ τ1) (X : RW5 σ1 τ1) : SX σ1 τ1 g := by
  obtain ⟨⟨Wk, Wo, Wa, Wt, Wv, Wp, Wr, Wb, Wc, Wd, Wl⟩, R5, D, kb, t8, rl, cw, ty⟩ := h
  have D1 := DW_sp D f1 (by decide)
  have D' : DW σ1 τ1 g := DW_cm D1 (fun _ _ => rfl) (fun _ _ => Int.le_refl _) (fr_mem f2 (by decide)) D1.2.2.2.2.1
  have W1 : WK σ1 τ1 := ⟨WKk_f Wk (fr_mem f1 (by decide)) (fr_mem f2 (by decide)), WKo_f Wo (fr_mem f1 (by decide)) (fr_mem f2 (by decide)), WKa_f Wa (fr_mem f1 (by decide)) (fr_mem f2 (by decide)), WKt_f Wt (fr_mem f1 (by decide)) (fr_mem f2 (by decide)), WKv_f Wv (fr_mem f1 (by decide)) (fr_mem f2 (by decide)), WKp_f Wp (fr_mem f1 (by decide)) (fr_mem f2 (by decide)), WKr_f Wr (fr_mem f1 (by decide)) (fr_mem f2 (by decide)), WKb_f Wb (fr_mem f1 (by decide)) (fr_mem f2 (by decide)), WKc_f Wc (fr_mem f1 (by decide)) (fr_mem f2 (by decide)), D'.2.1, D'.2.2.1⟩
  have W : WK σ τ := ⟨Wk, Wo, Wa, Wt, Wv, Wp, Wr, Wb, Wc, Wd, Wl⟩
  have S : tkS σ σ1 := tkS_f (tkS_r _) f1 (by decide)
  have G := S.2.2.2.2
  refine ⟨W1, X, D', kb0_f kb (fr_mem f1 (by decide)) (f2 _ (by decide)), tv8_f t8 (f1 _ (by decide)) (f1 _ (by decide)), ?_, CW_grow cw ⟨G, kdR_W W, kdR_W W1⟩ f1 (by decide) f2 (by decide), PY_eq ty (f1 _ (by decide)) (f1 _ (by decide)) (f1 _ (by decide)) (fr_mem f1 (by decide))⟩
  exact RL_grow rl G (DX_GD S.2.2.2.1 D'.1) (nmR_D D.1 Wd) (kdR_W W) (kdR_W W1) Wa f1 (by decide) f2 (by decide) (fun a _ _ => by rw [f2 _ (by decide)]) (fun a z0 z1 => by rw [f1 fW_adjectives (by decide)] at z1; omega)
theorem AP_w (A : AP σ τ) (f1 : fr wpC σ σ1) (f2 : fr wpM τ τ1) (R5 : RW5 σ1 τ1) : AP σ1 τ1 := by
  obtain ⟨⟨Q, al, dr, ft⟩, ⟨g, X⟩, O⟩ := A
  exact ⟨⟨AQ0_f Q f1 (by decide) f2 (by decide), by rw [f1 _ (by decide)]; exact al, by rw [f2 _ (by decide)]; exact dr, by rw [f2 _ (by decide), f1 _ (by decide)]; exact ft⟩, ⟨g, SX_w X f1 f2 R5⟩, ORD_f O f1 (by decide)⟩
/-- an adjective is made to hold -/
theorem RWt_now (Wa : WKa σ τ) (R : RWt σ τ) (hk0 : 0 ≤ σ fW_kinds 0 0) {o a c : Int} (ho : 0 ≤ o ∧ o < σ fW_objects 0 0) (o24 : σ fW_objects 0 0 ≤ 24) (ha : 0 ≤ a ∧ a < σ fW_adjectives 0 0) (hc : σ fW_contraries 0 a = c) (hc1 : c ≠ -1) (f1 : fr [fW_told] σ σ1) (t1 : ∀ r x, σ1 fW_told r x = if r = o ∧ x = c then 0 else if r = o ∧ x = a then 1 else σ fW_told r x) (f2 : fr [fM_objectIs] τ τ1) (t2 : ∀ i, τ1 fM_objectIs 0 i = if i = 24 * o + c then 2 else if i = 24 * o + a then 1 else τ fM_objectIs 0 i) : RWt σ1 τ1 := by
  have a24 := Wa.2.1
  have wa := (Wa.2.2.2 a ha.1 ha.2).2.resolve_left (fun z => hc1 (by rw [← hc]; exact z.1))
  rw [hc] at wa
  obtain ⟨w1, w2, w3, w4, _⟩ := wa
  have ta : σ1 fW_told o a = 1 := by rw [t1, if_neg (by omega), if_pos ⟨rfl, rfl⟩]
  have tc : σ1 fW_told o c = 0 := by rw [t1, if_pos ⟨rfl, rfl⟩]
  have tx : ∀ r x, ¬ (r = o ∧ x = c) → ¬ (r = o ∧ x = a) → σ1 fW_told r x = σ fW_told r x := fun r x h1 h2 => by rw [t1, if_neg h1, if_neg h2]
  have ia : τ1 fM_objectIs 0 (24 * o + a) = 1 := by rw [t2, if_neg (by omega), if_pos rfl]
  have ic : τ1 fM_objectIs 0 (24 * o + c) = 2 := by rw [t2, if_pos rfl]
  have ix : ∀ i, i ≠ 24 * o + c → i ≠ 24 * o + a → τ1 fM_objectIs 0 i = τ fM_objectIs 0 i := fun i h1 h2 => by rw [t2, if_neg h1, if_neg h2]
  obtain ⟨R1, R2, R3⟩ := R
  refine ⟨fun o' z0 z1 => ?_, fun k z0 z1 => ?_, fun r x z y0 y1 => ?_⟩
  · rw [f1 fW_objects (by decide)] at z1
    intro x x0 x1
    have h := R1 o' z0 z1 x x0 x1
    rw [f1 fW_adjectives (by decide), f1 fW_contraries (by decide)]
    unfold tv at h ⊢
    rw [f1 fW_contraries (by decide)]
    by_cases eo : o' = o
    · rw [eo] at h ⊢
      by_cases ex : x = a
      · rw [ex, hc, ta, tc, ia]
        exact ⟨Or.inr rfl, Or.inl ⟨ha.2, hc1, by rw [if_neg (by decide)], Or.inr rfl⟩⟩
      · by_cases ec : x = c
        · rw [ec, w4, tc, ta, ic]
          exact ⟨Or.inl rfl, Or.inl ⟨w2, by omega, by rw [if_pos rfl, if_neg (by decide)], Or.inl rfl⟩⟩
        · rw [tx o x (by omega) (by omega), ix (24 * o + x) (by omega) (by omega)]
          refine ⟨h.1, ?_⟩
          rcases h.2 with q | q
          · have wx := (Wa.2.2.2 x x0 q.1).2.resolve_left (fun z => q.2.1 z.1)
            obtain ⟨u1, u2, u3, u4, _⟩ := wx
            have n1 : σ fW_contraries 0 x ≠ c := fun z => by rw [z, w4] at u4; exact ex u4.symm
            have n2 : σ fW_contraries 0 x ≠ a := fun z => by rw [z, hc] at u4; exact ec u4.symm
            rw [tx o (σ fW_contraries 0 x) (fun z => n1 z.2) (fun z => n2 z.2)]
            exact Or.inl q
          · exact Or.inr q
    · rw [tx o' x (fun z => eo z.1) (fun z => eo z.1), tx o' (σ fW_contraries 0 x) (fun z => eo z.1) (fun z => eo z.1), ix (24 * o' + x) (by omega) (by omega)]
      exact h
  · rw [f1 fW_kinds (by decide)] at z1
    intro x x0 x1
    have h := R2 k z0 z1 x x0 x1
    unfold tv at h ⊢
    rw [f1 fW_adjectives (by decide), f1 fW_contraries (by decide), tx (24 + k) x (by omega) (by omega), tx (24 + k) (σ fW_contraries 0 x) (by omega) (by omega), f2 fM_kindIs (by decide)]
    exact h
  · rw [f1 fW_objects (by decide), f1 fW_kinds (by decide)] at z
    rw [tx r x (by omega) (by omega)]
    exact R3 r x z y0 y1
/-- a property is made so -/
theorem RWh_now (R : RWh σ τ) (hk0 : 0 ≤ σ fW_kinds 0 0) {o p v n m : Int} (ho : 0 ≤ o ∧ o < σ fW_objects 0 0) (o24 : σ fW_objects 0 0 ≤ 24) (hp : 0 ≤ p ∧ p < σ fW_properties 0 0) (p12 : σ fW_properties 0 0 ≤ 12) (vo : vlO σ p v n) (hnm : σ fW_propertyTypes 0 p = 1 → m = n) (e1 : σ1 = ga_up (ga_up (ga_up σ fW_has o p 1) fW_numbers o p v) fW_lengths o p n) (e2 : τ1 = ga_up (ga_up (ga_up τ fM_objectTold 0 (12 * o + p) 1) fM_objectSays 0 (12 * o + p) v) fM_objectLong 0 (12 * o + p) m) : RWh σ1 τ1 := by
  obtain ⟨R1, R2, R3⟩ := R
  have f1 : fr stW σ σ1 := by rw [e1]; exact fr_trans (fr_u (by decide)) (fr_trans (fr_u (by decide)) (fr_u (by decide)))
  have f2 : fr [fM_objectTold, fM_objectSays, fM_objectLong] τ τ1 := by rw [e2]; exact fr_trans (fr_u (by decide)) (fr_trans (fr_u (by decide)) (fr_u (by decide)))
  have x1 : ∀ i, τ1 fM_objectTold 0 i = if i = 12 * o + p then 1 else τ fM_objectTold 0 i := fun i => by rw [e2, up_F (by decide), up_F (by decide), up_at]
  have x2 : ∀ i, τ1 fM_objectSays 0 i = if i = 12 * o + p then v else τ fM_objectSays 0 i := fun i => by rw [e2, up_F (by decide), up_at, up_F (by decide)]
  have x3 : ∀ i, τ1 fM_objectLong 0 i = if i = 12 * o + p then m else τ fM_objectLong 0 i := fun i => by rw [e2, up_at, up_F (by decide), up_F (by decide)]
  refine ⟨fun o' z0 z1 => ?_, fun k z0 z1 => ?_, fun r x z y0 y1 => ?_⟩
  · rw [f1 fW_objects (by decide)] at z1
    refine rowH_pv.mpr fun q q0 q1 => ?_
    by_cases e : o' = o ∧ q = p
    · rw [e.1, e.2, x1, x2, x3, if_pos rfl, if_pos rfl, if_pos rfl]
      exact pvR_new hnm hp.2 vo e1
    · rw [x1, x2, x3, if_neg (by omega), if_neg (by omega), if_neg (by omega)]
      exact pvR_other (rowH_pv.mp (R1 o' z0 z1) q q0 q1) e e1
  · rw [f1 fW_kinds (by decide)] at z1
    refine rowH_pv.mpr fun q q0 q1 => ?_
    rw [f2 fM_kindTold (by decide), f2 fM_kindSays (by decide), f2 fM_kindLong (by decide)]
    exact pvR_other (rowH_pv.mp (R2 k z0 z1) q q0 q1) (by omega) e1
  · rw [f1 fW_objects (by decide), f1 fW_kinds (by decide)] at z
    have h := R3 r x z y0 y1
    rw [e1, up_F (by decide), up_F (by decide), up_nat, if_neg (by omega)]
    exact h
/-- what is related, but for one cell -/
def RWc (σ τ : ga_S) (r c : Int) : Prop := (∀ r', 0 ≤ r' → r' < σ fW_relations 0 0 → (σ fW_oneA 0 r' = 0 ∨ σ fW_oneA 0 r' = 1) ∧ (σ fW_oneB 0 r' = 0 ∨ σ fW_oneB 0 r' = 1) ∧ τ fM_firstOne 0 r' = σ fW_oneA 0 r' ∧ τ fM_secondOne 0 r' = σ fW_oneB 0 r' ∧ ∀ i, 0 ≤ i → i < 576 → ¬ (r' = r ∧ i = c) → (σ fW_related r' i = 0 ∨ σ fW_related r' i = 1) ∧ τ fM_related 0 (576 * r' + i) = σ fW_related r' i) ∧ (∀ i, 576 * σ fW_relations 0 0 ≤ i → i < 3456 → τ fM_related 0 i = 0)
theorem RWc_of (h : RWe σ τ) (r c : Int) : RWc σ τ r c := ⟨fun r' z0 z1 => ⟨(h.1 r' z0 z1).1, (h.1 r' z0 z1).2.1, (h.1 r' z0 z1).2.2.1, (h.1 r' z0 z1).2.2.2.1, fun i i0 i1 _ => (h.1 r' z0 z1).2.2.2.2 i i0 i1⟩, h.2⟩
/-- both sides set a cell: the same, or the one that is left out -/
theorem RWc_set {r c i v w : Int} (h : RWc σ τ r c) (hr : 0 ≤ r ∧ r < σ fW_relations 0 0) (r6 : σ fW_relations 0 0 ≤ 6) (hi : 0 ≤ i ∧ i < 576) (hv : i = c ∨ ((v = 0 ∨ v = 1) ∧ w = v)) (e1 : σ1 = ga_up σ fW_related r i v) (e2 : τ1 = ga_up τ fM_related 0 (576 * r + i) w) : RWc σ1 τ1 r c := by
  have f1 : fr [fW_related] σ σ1 := by rw [e1]; exact fr_u (by decide)
  have f2 : fr [fM_related] τ τ1 := by rw [e2]; exact fr_u (by decide)
  obtain ⟨h1, h2⟩ := h
  refine ⟨fun r' z0 z1 => ?_, fun j j0 j1 => ?_⟩
  · rw [f1 fW_relations (by decide)] at z1
    obtain ⟨q1, q2, q3, q4, q5⟩ := h1 r' z0 z1
    rw [f1 fW_oneA (by decide), f1 fW_oneB (by decide), f2 fM_firstOne (by decide), f2 fM_secondOne (by decide)]
    refine ⟨q1, q2, q3, q4, fun j j0 j1 ne => ?_⟩
    by_cases e : r' = r ∧ j = i
    · rcases hv with z | z
      · exact absurd ⟨e.1, by rw [e.2, z]⟩ ne
      · rw [e1, e2, e.1, e.2, up_eq, up_eq]; exact z
    · rw [e1, e2, up_nat, if_neg e, up_at, if_neg (by omega)]
      exact q5 j j0 j1 ne
  · rw [f1 fW_relations (by decide)] at j0
    rw [e2, up_at, if_neg (by omega)]
    exact h2 j j0 j1
theorem RWc_one {r c i : Int} (h : RWc σ τ r c) (hr : 0 ≤ r ∧ r < σ fW_relations 0 0) (r6 : σ fW_relations 0 0 ≤ 6) (hi : 0 ≤ i ∧ i < 576) (hv : i ≠ c) (x : Int) (hx : (x = 0 ∨ x = 1) ∧ x = σ fW_related r i) (e2 : τ1 = ga_up τ fM_related 0 (576 * r + i) x) : RWc σ τ1 r c := RWc_set h hr r6 hi (Or.inr ⟨by rw [hx.2] at hx; exact hx.1, hx.2⟩) (up_self σ fW_related r i).symm e2
theorem RWc_to {r c : Int} (h : RWc σ τ r c) (hr : 0 ≤ r ∧ r < σ fW_relations 0 0) (r6 : σ fW_relations 0 0 ≤ 6) (hc : 0 ≤ c ∧ c < 576) (e1 : σ1 = ga_up σ fW_related r c 1) (e2 : τ1 = ga_up τ fM_related 0 (576 * r + c) 1) : RWe σ1 τ1 := by
  have q := RWc_set h hr r6 hc (Or.inl rfl) e1 e2
  refine ⟨fun r' z0 z1 => ?_, q.2⟩
  obtain ⟨q1, q2, q3, q4, q5⟩ := q.1 r' z0 z1
  refine ⟨q1, q2, q3, q4, fun i i0 i1 => ?_⟩
  by_cases e : r' = r ∧ i = c
  · rw [e1, e2, e.1, e.2, up_eq, up_eq]; exact ⟨Or.inr rfl, rfl⟩
  · exact q5 i i0 i1 e
end

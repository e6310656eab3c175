theorem ga_vr_ref {Y : ga_Y} {H : Heap} {u : Nat} {v : Int} {w : Value} (h : ga_vr Y H (u, v) w) (hu : 1 < u) : (∃ x, w = .ref x) ∨ w = .null := by
  rcases h with ⟨-, a, rfl, -⟩ | ⟨rfl, h⟩
  · exact Or.inl ⟨a, rfl⟩
  · match u, hu with
    | 2, _ => exact Or.inr rfl
    | c + 3, _ =>
      unfold ga_cv
      dsimp only
      split
      · exact Or.inr rfl
      · exact Or.inl ⟨_, rfl⟩
theorem ga_ncond_inv {ρ : Type} {b : Bool} {x : Option ρ} {r : ρ} (h : (bif b then none else x) = some r) : b = false ∧ x = some r := by
  cases b
  · exact ⟨rfl, h⟩
  · cases h
theorem ga_cat1 {t : Nat} (h : Nat.beq t 1 = false) : ga_cat t = 1 := by unfold ga_cat; rw [h]; rfl
theorem ga_refs {Y : ga_Y} (hT : ga_TB Y) {H : Heap} {c : Nat} {x y : Int} {w1 w2 : Value} (hx : ga_vr Y H (c + 3, x) w2) (hy : ga_vr Y H (c + 3, y) w1) : ∃ rx ry : Option Nat, w2 = va_rf rx ∧ w1 = va_rf ry ∧ (rx = ry ↔ x = y) := by
  obtain ⟨e1, a1, a2, -⟩ := ga_vr_o hx
  obtain ⟨e2, b1, b2, -⟩ := ga_vr_o hy
  subst e1; subst e2
  by_cases hx0 : x < 0
  · by_cases hy0 : y < 0
    · refine ⟨none, none, by rw [if_pos hx0]; rfl, by rw [if_pos hy0]; rfl, fun _ => by omega, fun _ => rfl⟩
    · refine ⟨none, some (Y.1.1 c y.toNat), by rw [if_pos hx0]; rfl, by rw [if_neg hy0]; rfl, fun z => (by cases z), fun z => by omega⟩
  · by_cases hy0 : y < 0
    · refine ⟨some (Y.1.1 c x.toNat), none, by rw [if_neg hx0]; rfl, by rw [if_pos hy0]; rfl, fun z => (by cases z), fun z => by omega⟩
    · refine ⟨some (Y.1.1 c x.toNat), some (Y.1.1 c y.toNat), by rw [if_neg hx0]; rfl, by rw [if_neg hy0]; rfl, fun z => ?_, fun z => by rw [z]⟩
      have := (hT.1 c x.toNat c y.toNat (by omega) (by omega) (Option.some.inj z)).2
      omega
theorem ga_sw_tab {ρ : Type} {r : ρ} {x : Int} {pc d : Nat} {k : Nat → Option ρ} : ∀ (l : List Int) (lo : Int), ga_sw x (ga_tab pc lo l) d k = some r → ∃ tg, k tg = some r ∧ ((∃ (j : Nat) (o : Int), l[j]? = some o ∧ x = lo + j ∧ tg = ga_tg pc o) ∨ ((x < lo ∨ lo + l.length ≤ x) ∧ tg = d))
  | [], lo, h => ⟨d, h, Or.inr ⟨by simp only [List.length_nil]; omega, rfl⟩⟩
  | o :: l, lo, h => by
    simp only [ga_tab, ga_sw] at h
    split at h
    · rename_i e
      exact ⟨_, h, Or.inl ⟨0, o, rfl, by omega, rfl⟩⟩
    · rename_i e
      obtain ⟨tg, h1, h2⟩ := ga_sw_tab l (lo + 1) h
      refine ⟨tg, h1, ?_⟩
      rcases h2 with ⟨j, o', h3, h4, h5⟩ | ⟨h3, h4⟩
      · exact Or.inl ⟨j + 1, o', h3, by omega, h5⟩
      · refine Or.inr ⟨?_, h4⟩
        simp only [List.length_cons]
        omega
theorem ga_sw_lkp {ρ : Type} {r : ρ} {x : Int} {pc : Nat} {q : Int} {k : Nat → Option ρ} : ∀ (l : List (Int × Int)), ga_sw x (ga_lkp pc l) (ga_tg pc q) k = some r → ∃ o, k (ga_tg pc o) = some r ∧ Op.lookupswitch.offset l q x = o ∧ (o = q ∨ ∃ z ∈ l, o = z.2)
  | [], h => ⟨q, h, rfl, Or.inl rfl⟩
  | (a, o) :: l, h => by
    simp only [ga_lkp, List.map_cons, ga_sw] at h
    rw [Op.lookupswitch.offset_cons]
    split at h
    · rename_i e
      subst e
      exact ⟨o, h, by simp, Or.inr ⟨(x, o), List.mem_cons_self, rfl⟩⟩
    · rename_i e
      obtain ⟨o', h1, h2, h3⟩ := ga_sw_lkp l h
      refine ⟨o', h1, ?_, ?_⟩
      · rw [if_neg (by first | exact e | exact fun z => e z.symm)]; exact h2
      · rcases h3 with h3 | ⟨z, hz, h3⟩
        · exact Or.inl h3
        · exact Or.inr ⟨z, List.mem_cons_of_mem _ hz, h3⟩
/-! AM is sound, 4: every instruction -/
theorem ga_s_pure {Y : ga_Y} {X : ga_CX} {r : ga_R} {K : Nat → ga_L → List ga_V → ga_S → Option ga_R} {pc : Nat} {L : ga_L} {st : List ga_V} {σ : ga_S} (hK : ∀ pc' L' st' σ', K pc' L' st' σ' = some r → ga_al σ' ≤ ga_al r.2 ∧ ga_F Y X pc' L' st' σ') {pc' : Nat} {L' : ga_L} {st' : List ga_V} (hk : K pc' L' st' σ = some r)
    (row : ∀ (H : Heap) (ls : Array Slot) (sv : List Value) (locs : List Loc) (k : Nat), ga_LR Y H (ga_xn X) L ls → ga_SR Y H st sv → ga_xS Y X H locs → (∀ ls' sv', ga_LR Y H (ga_xn X) L' ls' → ga_SR Y H st' sv' → ga_W X H locs k pc' ls' sv') → ga_W X H locs k pc ls sv) : ga_al σ ≤ ga_al r.2 ∧ ga_F Y X pc L st σ := by
  obtain ⟨h1, h2⟩ := hK _ _ _ _ hk
  exact ⟨h1, fun H ls sv locs a b c d e => row H ls sv locs _ b c d (fun ls' sv' b' c' => h2 H ls' sv' locs a b' c' d e)⟩
theorem ga_s_br {Y : ga_Y} {X : ga_CX} {r : ga_R} {K : Nat → ga_L → List ga_V → ga_S → Option ga_R} {pc : Nat} {L : ga_L} {st st' : List ga_V} {σ : ga_S} (hK : ∀ pc' L' st' σ', K pc' L' st' σ' = some r → ga_al σ' ≤ ga_al r.2 ∧ ga_F Y X pc' L' st' σ') {P : Prop} {dP : Decidable P} {p1 p2 : Nat} (h : (if P then K p1 L st' σ else K p2 L st' σ) = some r)
    (row : ∀ (H : Heap) (ls : Array Slot) (sv : List Value) (locs : List Loc) (k : Nat), ga_LR Y H (ga_xn X) L ls → ga_SR Y H st sv → (P → ∀ sv', ga_SR Y H st' sv' → ga_W X H locs k p1 ls sv') → (¬ P → ∀ sv', ga_SR Y H st' sv' → ga_W X H locs k p2 ls sv') → ga_W X H locs k pc ls sv) : ga_al σ ≤ ga_al r.2 ∧ ga_F Y X pc L st σ := by
  by_cases hP : P
  · rw [if_pos hP] at h
    exact ga_s_pure hK h (fun H ls sv locs k a b _ kk => row H ls sv locs k a b (fun _ sv' b' => kk ls sv' a b') (fun z => absurd hP z))
  · rw [if_neg hP] at h
    exact ga_s_pure hK h (fun H ls sv locs k a b _ kk => row H ls sv locs k a b (fun z => absurd z hP) (fun _ sv' b' => kk ls sv' a b'))
theorem ga_s_rd {Y : ga_Y} {X : ga_CX} {r : ga_R} {K : Nat → ga_L → List ga_V → ga_S → Option ga_R} {pc : Nat} {L : ga_L} {st : List ga_V} {σ : ga_S} (hK : ∀ pc' L' st' σ', K pc' L' st' σ' = some r → ga_al σ' ≤ ga_al r.2 ∧ ga_F Y X pc' L' st' σ') {pc' : Nat} {L' : ga_L} {st' : List ga_V} (hk : K pc' L' st' σ = some r)
    (row : ∀ (H : Heap) (ls : Array Slot) (sv : List Value) (locs : List Loc) (k : Nat), ga_Hd Y σ H → ga_LR Y H (ga_xn X) L ls → ga_SR Y H st sv → ga_xS Y X H locs → (∀ ls' sv', ga_LR Y H (ga_xn X) L' ls' → ga_SR Y H st' sv' → ga_W X H locs k pc' ls' sv') → ga_W X H locs k pc ls sv) : ga_al σ ≤ ga_al r.2 ∧ ga_F Y X pc L st σ := by
  obtain ⟨h1, h2⟩ := hK _ _ _ _ hk
  exact ⟨h1, fun H ls sv locs a b c d e => row H ls sv locs _ a b c d (fun ls' sv' b' c' => h2 H ls' sv' locs a b' c' d e)⟩
/-- a store to a cell of ours -/
theorem ga_s_wr {Y : ga_Y} {X : ga_CX} {r : ga_R} {K : Nat → ga_L → List ga_V → ga_S → Option ga_R} {pc : Nat} {L : ga_L} {st : List ga_V} {σ σ1 : ga_S} (hSS : ga_SS Y) (hK : ∀ pc' L' st' σ', K pc' L' st' σ' = some r → ga_al σ' ≤ ga_al r.2 ∧ ga_F Y X pc' L' st' σ') {pc' : Nat} {st' : List ga_V} (hk : K pc' L st' σ1 = some r) (hal : ga_al σ1 = ga_al σ)
    (row : ∀ (H : Heap) (ls : Array Slot) (sv : List Value) (locs : List Loc) (k : Nat), ga_Hd Y σ H → ga_LR Y H (ga_xn X) L ls → ga_SR Y H st sv → (∀ (sv' : List Value) (H1 : Heap) (z i : Nat), ga_SR Y H st' sv' → ga_Hd Y σ1 H1 → H1.size = H.size → ga_isO Y z → (∀ q, q ≠ z → H1[q]? = H[q]?) → ga_W X H1 (locs ++ [⟨z, i⟩]) k pc' ls sv') → ga_W X H locs k pc ls sv) : ga_al σ ≤ ga_al r.2 ∧ ga_F Y X pc L st σ := by
  obtain ⟨h1, h2⟩ := hK _ _ _ _ hk
  rw [hal] at h1
  refine ⟨h1, fun H ls sv locs a b c d e => row H ls sv locs _ a b c (fun sv' H1 z i c' hd hs hz hq => ?_)⟩
  have hkp : ga_keep Y H H1 := ⟨by omega, fun q _ hn => hq q (fun ez => hn (ez ▸ hz))⟩
  have := h2 H1 ls sv' (locs ++ [(⟨z, i⟩ : Loc)]) hd (ga_LR_keep hSS hkp b) (ga_SR_keep hSS hkp _ _ c') (show va_S _ _ _ _ from va_S.put d hs hq (Or.inl hz)) (by rw [hal]; exact e)
  rw [hal] at this
  exact this
theorem ga_nat {n : Int} {c : Nat} (h0 : 0 ≤ n) (h : n < (c : Int)) : ∃ k : Nat, n = k ∧ k < c := ⟨n.toNat, by omega, by omega⟩
/-- the object of a value -/
theorem ga_ob {Y : ga_Y} {H : Heap} {c : Nat} {x n : Int} {w : Value} (hv : ga_vr Y H (c + 3, x) w) (ho : (Y.2.2.1.1 c = true ∧ n = 0) ∨ (0 ≤ x ∧ n = x)) : ∃ k : Nat, n = k ∧ k < Y.2.1 c ∧ w = .ref (Y.1.1 c k) := by
  obtain ⟨rfl, h1, h2, h3⟩ := ga_vr_o hv
  have e : n = x := by
    rcases ho with ⟨a, b⟩ | ⟨-, b⟩
    · rw [h3 a, b]
    · exact b
  subst e
  have h0 : 0 ≤ n := by
    rcases ho with ⟨a, b⟩ | ⟨a, -⟩
    · omega
    · exact a
  refine ⟨n.toNat, by omega, by omega, ?_⟩
  rw [if_neg (by omega)]
theorem ga_obj_K {ρ : Type} {G : ga_G} {r : ρ} {c : Nat} {x : Int} {k : Int → Option ρ} (h : ga_obj G c x k = some r) : ∃ n : Int, ((G.1 c = true ∧ n = 0) ∨ (0 ≤ x ∧ n = x)) ∧ k n = some r := by
  rcases ga_obj_inv h with ⟨a, b⟩ | ⟨a, b⟩
  · exact ⟨0, Or.inl ⟨a, rfl⟩, b⟩
  · exact ⟨x, Or.inr ⟨a, rfl⟩, b⟩
theorem ga_P1 {D : va_G} {cl : List vw_C} {a ci N : Nat} {C : String} {T : u_T} {H : Heap} {V : Nat → Value} (hc : cl[ci]? = some (C, T, N)) (h : t_OB a (D.1 ci) N (D.2 ci) H V) : va_P D cl [(a, .inr (ci, (List.range N).map V))] H := by
  intro k q hq
  have hk : k = 0 := by
    have := (List.getElem?_eq_some_iff.mp hq).1
    simp at this
    exact this
  subst hk
  cases hq
  refine ⟨(C, T, N), hc, h.to (fun j hj => ?_)⟩
  simp [vp_V, List.getD_eq_getElem?_getD, hj]
section
variable {p : Program} {l : Launch} {e : Env} {R : Room} {s : State} {m : MethodId} {args : Array Value} {below : List Frame} {meth : Method} {c : Code} {H : Heap} {locs : List Loc} {cells slots : Nat} {Q : State → Prop}
variable {cc : ByteArray} {pc : Nat} {ls : Array Slot} {rest : List Value} {D : va_G} {cl : List vw_C} {a : Nat}
theorem ga_Wput (hexec : p.tables.exec = Jvm.exec) (hb : c.code = cc) {own C : String} {T : u_T} {N ci index : Nat} (hts : ∀ w ∈ ga_tb, w.before args s = true) (hin : ∀ w ∈ u_ws C T N, w ∈ ga_tb) (ty0 : Nat → FieldType) (hty : ∀ k, k < N → parseFieldDescriptor (T k).2.2.1 = some (ty0 k)) (hnm : ∀ a, a < N → ∀ b, b < N → a ≠ b → (T a).2.1 ≠ (T b).2.1) (hown : s.vm.findClass own = some m.cls) (hK : va_K D cl [] s) {V : Nat → Value} (ho : t_OB a (D.1 ci) N (D.2 ci) H V) (hc : cl[ci]? = some (C, T, N)) (k : Nat) (hk : k < N)
    (hlink : Cond.fieldLink own index C (T k).2.1 (T k).2.2.1 ∈ ga_tb ∨ ∃ host, Cond.fieldLinkNest own index C (T k).2.1 (T k).2.2.1 host ∈ ga_tb) (hTC : (T k).1 = C) (hfin : (T k).2.2.2 = false) {v : Value} (hn : narrow (ty0 k) v = v) (hfit : fits (ty0 k) v = true) (hdg : decode cc pc = .ok (.putfield index, 3))
    (kk : ∀ (H1 : Heap) (i : Nat), t_OB a (D.1 ci) N (D.2 ci) H1 (updV V k v) → H1.size = H.size → (∀ q : Nat, q ≠ a → H1[q]? = H[q]?) → W p l e R s m args below meth c H1 (locs ++ [⟨a, i⟩]) cells slots Q (F0 m (pc + 3) ls rest)) : W p l e R s m args below meth c H locs cells slots Q (F0 m pc ls (v :: .ref a :: rest)) := by
  have hap := va_apart (own := own) hts hin ty0 hty hnm hK hc
  obtain ⟨cell, q1, q2, q3, q4⟩ := ho
  obtain ⟨hS, hfc, kC, hkC, hkind⟩ := hK.1 ci _ hc
  obtain ⟨cf, kf, fi, f, hi, hsl⟩ := hS k hk
  have hlay := hts _ (hin _ (u_in_lay hk))
  unfold u_lay at hlay
  rw [if_neg (by rw [hfin]; decide)] at hlay
  have hst := (u_facts hfc hkC (u_lays hts hin hk) hi).1
  have h6 := u_store hfc hkC hkind hlay hi (hty k hk) hn hfit
  rw [hTC] at hi
  rcases hlink with hl | ⟨host, hl⟩
  · refine W.putK hexec hb (f := f) ⟨hown, hts _ hl, ⟨_, _, _, hi⟩, hst⟩ (by rw [q2]; exact h6) q1 q3 (by rw [hsl]; exact k2_hasslot (q4 k hk)) rfl rfl hdg fun H' e1 e2 e3 => ?_
    rw [hsl] at e1
    exact kk H' _ ⟨_, e1, q2, q3, t_set q4 hap hk v⟩ e2 e3
  · refine va_WputK hexec hb (f := f) hown (hts _ hl) hi hst (by rw [q2]; exact h6) q1 q3 (by rw [hsl]; exact k2_hasslot (q4 k hk)) rfl rfl hdg fun H' e1 e2 e3 => ?_
    rw [hsl] at e1
    exact kk H' _ ⟨_, e1, q2, q3, t_set q4 hap hk v⟩ e2 e3
end
theorem ga_fvK {Y : ga_Y} {r : ga_R} {K : Nat → ga_L → List ga_V → ga_S → Option ga_R} {nx c e : Nat} {d : Int} {L : ga_L} {rest : List ga_V} {σ : ga_S} {n : Int} (h : (bif Nat.blt c 999 then K nx L ((c, σ e n 0) :: rest) σ else bif Nat.beq c 999 then K nx L ((0, n) :: rest) σ else K nx L ((c - 1000, ga_ad n d) :: rest) σ) = some r) : K nx L (ga_fv (c, e, d) n σ :: rest) σ = some r := by
  unfold ga_fv
  cases h1 : Nat.blt c 999 with
  | true =>
    rw [h1] at h
    rw [if_pos (ga_blt h1)]
    exact h
  | false =>
    rw [h1] at h
    rw [if_neg (fun z => by rw [Nat.blt] at h1; exact absurd (Nat.ble_eq_true_of_le (show c + 1 ≤ 999 from z)) (by rw [h1]; decide))]
    cases h2 : Nat.beq c 999 with
    | true =>
      rw [h2] at h
      rw [if_pos (ga_beq h2)]
      exact h
    | false =>
      rw [h2] at h
      rw [if_neg (fun z => by have z : c = 999 := z; rw [z] at h2; exact absurd h2 (by decide))]
      exact h
theorem ga_avK {r : ga_R} {K : Nat → ga_L → List ga_V → ga_S → Option ga_R} {nx e t F : Nat} {len m b : Int} {L : ga_L} {rest : List ga_V} {σ : ga_S} {n i : Int} (h : (bif Nat.blt t 999 then K nx L ((t, σ F n i) :: rest) σ else K nx L ((t - 1000, ga_ad (bif m == 0 then i else m * n + i) b) :: rest) σ) = some r) : K nx L (ga_av (e, len, t, F, m, b) n i σ :: rest) σ = some r := by
  unfold ga_av
  cases h1 : Nat.blt t 999 with
  | true =>
    rw [h1] at h
    rw [if_pos (ga_blt h1)]
    exact h
  | false =>
    rw [h1] at h
    rw [if_neg (fun z => by rw [Nat.blt] at h1; exact absurd (Nat.ble_eq_true_of_le (show t + 1 ≤ 999 from z)) (by rw [h1]; decide))]
    exact h
theorem ga_aload_inv {Y : ga_Y} {r : ga_R} {K : Nat → ga_L → List ga_V → ga_S → Option ga_R} {e1 e2 nx : Nat} {L : ga_L} {st : List ga_V} {σ : ga_S} (h : ga_aload Y.2.2.1 K e1 e2 nx L st σ = some r) : ∃ (i x n : Int) (ta : Nat) (rest : List ga_V), st = (0, i) :: (ta + 3, x) :: rest ∧ ((Y.2.2.1.2.2 ta).1 = e1 ∨ (Y.2.2.1.2.2 ta).1 = e2) ∧ ((Y.2.2.1.1 ta = true ∧ n = 0) ∨ (0 ≤ x ∧ n = x)) ∧ 0 ≤ i ∧ i < (Y.2.2.1.2.2 ta).2.1 ∧ K nx L (ga_av (Y.2.2.1.2.2 ta) n i σ :: rest) σ = some r := by
  unfold ga_aload at h
  split at h
  · rename_i ti i ta x rest
    split at h
    rename_i e len t F m b hq
    obtain ⟨h1, h2⟩ := ga_cond_inv h
    obtain ⟨g1, g2⟩ := Bool.and_eq_true_iff.mp h1
    have g1 := ga_beq g1
    subst g1
    obtain ⟨n, h3, h4⟩ := ga_obj_K h2
    obtain ⟨h5, h6, h7⟩ := ga_ck_inv h4
    refine ⟨i, x, n, ta, rest, rfl, ?_, h3, h5, by rw [hq]; exact h6, by rw [hq]; exact ga_avK h7⟩
    rw [hq]
    rcases Bool.or_eq_true_iff.mp g2 with q | q
    · exact Or.inl (ga_beq q)
    · exact Or.inr (ga_beq q)
  · cases h
theorem ga_astore_inv {Y : ga_Y} {r : ga_R} {K : Nat → ga_L → List ga_V → ga_S → Option ga_R} {e1 e2 nx : Nat} {L : ga_L} {st : List ga_V} {σ : ga_S} (h : ga_astore Y.2.2.1 K e1 e2 nx L st σ = some r) : ∃ (v i x n w : Int) (ta : Nat) (rest : List ga_V), st = ((Y.2.2.1.2.2 ta).2.2.1, v) :: (0, i) :: (ta + 3, x) :: rest ∧ ((Y.2.2.1.2.2 ta).1 = e1 ∨ (Y.2.2.1.2.2 ta).1 = e2) ∧ ((Y.2.2.1.1 ta = true ∧ n = 0) ∨ (0 ≤ x ∧ n = x)) ∧ 0 ≤ i ∧ i < (Y.2.2.1.2.2 ta).2.1 ∧ (Y.2.2.1.2.2 ta).2.2.1 < 999 ∧
      (if (Y.2.2.1.2.2 ta).1 = 1 then w = w8 v else w = v ∧ ((Y.2.2.1.2.2 ta).1 = 2 → v = 0 ∨ v = 1)) ∧ K nx L rest (ga_up σ (Y.2.2.1.2.2 ta).2.2.2.1 n i w) = some r := by
  unfold ga_astore at h
  split at h
  · rename_i tv v ti i ta x rest
    split at h
    rename_i e len t F m b hq
    obtain ⟨h1, h2⟩ := ga_cond_inv h
    obtain ⟨g1, g4⟩ := Bool.and_eq_true_iff.mp h1
    obtain ⟨g1, g3⟩ := Bool.and_eq_true_iff.mp g1
    obtain ⟨g1, g2⟩ := Bool.and_eq_true_iff.mp g1
    have g1 := ga_beq g1
    have g3 := ga_blt g3
    have g4 := ga_beq g4
    subst g1; subst g4
    obtain ⟨n, h3, h4⟩ := ga_obj_K h2
    obtain ⟨h5, h6, h7⟩ := ga_ck_inv h4
    have hw : ∃ w, (if e = 1 then w = w8 v else w = v ∧ (e = 2 → v = 0 ∨ v = 1)) ∧ K nx L rest (ga_up σ F n i w) = some r := by
      unfold ga_put at h7
      cases z1 : Nat.beq e 1 with
      | true =>
        rw [z1] at h7
        have := ga_beq z1
        exact ⟨w8 v, by rw [if_pos this], h7⟩
      | false =>
        rw [z1] at h7
        have n1 : e ≠ 1 := fun z => by rw [z] at z1; exact absurd z1 (by decide)
        cases z2 : Nat.beq e 2 with
        | true =>
          rw [z2] at h7
          obtain ⟨a1, a2⟩ := ga_01_inv h7
          exact ⟨v, by rw [if_neg n1]; exact ⟨rfl, fun _ => a1⟩, a2⟩
        | false =>
          rw [z2] at h7
          have n2 : e ≠ 2 := fun z => by rw [z] at z2; exact absurd z2 (by decide)
          exact ⟨v, by rw [if_neg n1]; exact ⟨rfl, fun z => absurd z n2⟩, h7⟩
    obtain ⟨w, hw1, hw2⟩ := hw
    refine ⟨v, i, x, n, w, ta, rest, by rw [hq], ?_, h3, h5, by rw [hq]; exact h6, by rw [hq]; exact g3, by rw [hq]; exact hw1, by rw [hq]; exact hw2⟩
    rw [hq]
    rcases Bool.or_eq_true_iff.mp g2 with q | q
    · exact Or.inl (ga_beq q)
    · exact Or.inr (ga_beq q)
  · cases h
theorem ga_isarr {Y : ga_Y} (hT : ga_TB Y) {c : Nat} (h : (Y.2.2.1.2.2 c).1 < 5) : Y.2.2.2.2.1[c]? = none := by
  cases hc : Y.2.2.2.2.1[c]? with
  | none => rfl
  | some q =>
    have := hT.2.2.2.2.1 c (by rw [hc]; exact fun z => by cases z)
    omega
theorem ga_xS_keep {Y : ga_Y} {X : ga_CX} {H : Heap} {locs : List Loc} (h : ga_xS Y X H locs) : ga_keep Y (ga_xs X).heap H :=
  ⟨h.1, fun q h1 h2 => h.2.1 q h1 (fun z => by rcases z with z | z; exact h2 z; omega)⟩
theorem ga_recv_inv {Y : ga_Y} {r : ga_R} {inst : Bool} {rc : Nat} {vs : List ga_V} {x : Option ga_R} (h : ga_recv Y.2.2.1 inst rc vs x = some r) : ga_rok Y inst rc vs ∧ x = some r := by
  unfold ga_recv at h
  cases inst with
  | false => exact ⟨fun z => (by cases z), h⟩
  | true =>
    simp only [cond_true] at h
    split at h
    · obtain ⟨h1, h2⟩ := ga_cond_inv h
      exact ⟨fun _ => Or.inl ⟨ga_beq h1, _, _, rfl⟩, h2⟩
    · rename_i c v rest
      obtain ⟨h1, h3⟩ := ga_cond_inv h
      have h1 := ga_beq h1
      subst h1
      cases hc : Y.2.2.1.1 c with
      | true => rw [hc] at h3; exact ⟨fun _ => Or.inr ⟨v, rest, rfl, Or.inl hc⟩, h3⟩
      | false =>
        rw [hc] at h3
        obtain ⟨h1, h2⟩ := ga_nn_inv h3
        exact ⟨fun _ => Or.inr ⟨v, rest, rfl, Or.inr h1⟩, h2⟩
    · cases h
theorem ga_s_inv {Y : ga_Y} {X : ga_CX} {r : ga_R} {K : Nat → ga_L → List ga_V → ga_S → Option ga_R} {call : Nat → List ga_V → ga_S → Option ga_R} {cc : ByteArray} {pc : Nat} {L : ga_L} {st : List ga_V} {σ : ga_S} (hSS : ga_SS Y) (hroom : 2 * (ga_al r.2 - ga_xa X) ≤ X.2.2.2.1.cells ∧ 32 * (ga_al r.2 - ga_xa X) ≤ X.2.2.2.1.slots) (hK : ∀ pc' L' st' σ', K pc' L' st' σ' = some r → ga_al σ' ≤ ga_al r.2 ∧ ga_F Y X pc' L' st' σ') {inst : Bool} {idx j na rc : Nat} {rt : Int}
    (hC : ∀ (vs : List ga_V) (σ : ga_S) (q : ga_R), call j vs σ = some q → vs.length = na → ga_rok Y inst rc vs →
    ga_al σ ≤ ga_al q.2 ∧ ∀ (pc : Nat) (H : Heap) (ls : Array Slot) (svs srest : List Value) (locs : List Loc) (k : Nat), ls.size = ga_xn X → ga_Hd Y σ H → ga_SR Y H vs svs → (srest.map fun v => v.category).sum ≤ 8 → ga_xS Y X H locs →
      decode cc pc = .ok (if inst = true then .invokevirtual idx else .invokestatic idx, 3) → (2 * (k + (ga_al q.2 - ga_al σ)) ≤ X.2.2.2.1.cells ∧ 32 * (k + (ga_al q.2 - ga_al σ)) ≤ X.2.2.2.1.slots) →
      (∀ (H1 : Heap) (locs1 : List Loc) (rv : List Value), ga_Hd Y q.2 H1 → ga_keep Y H H1 → (if rt = -1 then rv = [] else ∃ w, rv = [w] ∧ ga_vr Y H1 (rt.toNat, q.1) w) → ga_xS Y X H1 locs1 → ga_W X H1 locs1 (k + (ga_al q.2 - ga_al σ)) (pc + 3) ls (rv ++ srest)) →
      ga_W X H locs k pc ls (svs.reverse ++ srest))
    (h : ga_invoke Y.2.2.1 call K inst j na rc rt (pc + 3) L st σ = some r) (hd : decode cc pc = .ok (if inst = true then .invokevirtual idx else .invokestatic idx, 3)) : ga_al σ ≤ ga_al r.2 ∧ ga_F Y X pc L st σ := by
  unfold ga_invoke at h
  obtain ⟨vs, rest, rfl, hlen, h⟩ := ga_spl_inv na st [] h
  obtain ⟨h1, h⟩ := ga_cond_inv h
  have h1 := Nat.le_of_ble_eq_true h1
  rw [List.append_nil] at h
  obtain ⟨hrok, h⟩ := ga_recv_inv h
  cases hq : call j vs.reverse σ with
  | none => rw [hq] at h; cases h
  | some q =>
    rw [hq, Option.bind_some] at h
    obtain ⟨m1, rule⟩ := hC vs.reverse σ q hq (by rw [List.length_reverse]; exact hlen) hrok
    have hk : ∃ st1, K (pc + 3) L st1 q.2 = some r ∧ ((rt = -1 ∧ st1 = rest) ∨ (rt ≠ -1 ∧ st1 = (rt.toNat, q.1) :: rest)) := by
      by_cases e : rt = -1
      · rw [e] at h; exact ⟨rest, h, Or.inl ⟨e, rfl⟩⟩
      · rw [show (rt == -1) = false from beq_eq_false_iff_ne.mpr e] at h; exact ⟨_, h, Or.inr ⟨e, rfl⟩⟩
    obtain ⟨st1, hk1, hk2⟩ := hk
    obtain ⟨m2, hF⟩ := hK _ _ _ _ hk1
    refine ⟨Nat.le_trans m1 m2, fun H ls sv locs hH hL hS hZ ha => ?_⟩
    obtain ⟨s1, s2, rfl, hs1, hs2⟩ := ga_SR_app vs rest sv hS
    have hrule := rule pc H ls s1.reverse s2 locs (ga_al σ - ga_xa X) hL.1 hH (ga_SR_rev _ _ hs1) (by rw [ga_SR_cats _ _ hs2]; exact h1) hZ hd ⟨by have := hroom.1; omega, by have := hroom.2; omega⟩ (fun H1 locs1 rv hH1 hkp hrv hZ1 => ?_)
    · rw [List.reverse_reverse] at hrule
      exact hrule
    · rw [show ga_al σ - ga_xa X + (ga_al q.2 - ga_al σ) = ga_al q.2 - ga_xa X by omega]
      refine hF H1 ls (rv ++ s2) locs1 hH1 (ga_LR_keep hSS hkp hL) ?_ hZ1 (by omega)
      rcases hk2 with ⟨e, rfl⟩ | ⟨e, rfl⟩
      · rw [if_pos e] at hrv
        subst hrv
        exact ga_SR_keep hSS hkp _ _ hs2
      · rw [if_neg e] at hrv
        obtain ⟨w, rfl, hw⟩ := hrv
        exact ⟨hw, ga_SR_keep hSS hkp _ _ hs2⟩
set_option maxHeartbeats 4000000 in
theorem ga_step_ok {Y : ga_Y} {X : ga_CX} {cc : ByteArray} {own : String} {rk : Nat} {r : ga_R} (hT : ga_TB Y) (hSS : ga_SS Y) (hX : ga_ok Y X cc own rk r) {ml : Nat → Bool → Nat → Nat → Nat → Int → Prop} {gs lc : Nat → Nat → Int → Prop} {call : Nat → List ga_V → ga_S → Option ga_R} {K : Nat → ga_L → List ga_V → ga_S → Option ga_R} {Rt : ga_R → Option ga_R}
    (hC : ga_CR Y X cc ml call) (hP : ga_SP Y X cc gs lc) (hK : ∀ pc' L' st' σ', K pc' L' st' σ' = some r → ga_al σ' ≤ ga_al r.2 ∧ ga_F Y X pc' L' st' σ') (hR : ∀ q, Rt q = some r → q = r) {i : Instr} {pc nx a b c e : Nat} {d : Int} {L : ga_L} {st : List ga_V} {σ : ga_S}
    (hc : ga_crt Y (ga_xn X) own ml gs lc cc i pc nx a b c e d) (h : ga_step Y.2.2.1 call rk K Rt i pc nx a b c e d L st σ = some r) : ga_al σ ≤ ga_al r.2 ∧ ga_F Y X pc L st σ := by
  obtain ⟨p, l, ee, R, s, m, args, below, meth, cd, Q, nL, a0⟩ := X
  obtain ⟨hx, hb, hml, hown, hts, hlocks, hKN, hQ, hroom, hr0, hr1, hr2, hr4, hr5⟩ := hX
  cases i
  case iconst n =>
    simp only [ga_step] at h
    obtain ⟨hd, rfl, -⟩ := hc
    obtain ⟨h1, h2⟩ := ga_cond_inv h
    obtain ⟨g1, g2⟩ := Bool.and_eq_true_iff.mp h1
    have g1 := of_decide_eq_true g1
    have g2 := of_decide_eq_true g2
    refine ga_s_pure hK h2 (fun H ls sv locs k hL hS hZ kk => ?_)
    exact lv_iconst hx hb hd rfl (kk ls _ hL ⟨ga_vr_mi ⟨by omega, by omega⟩, hS⟩)
  case bipush n =>
    simp only [ga_step] at h
    obtain ⟨hd, rfl, -⟩ := hc
    obtain ⟨h1, h2⟩ := ga_cond_inv h
    obtain ⟨g1, g2⟩ := Bool.and_eq_true_iff.mp h1
    have g1 := of_decide_eq_true g1
    have g2 := of_decide_eq_true g2
    refine ga_s_pure hK h2 (fun H ls sv locs k hL hS hZ kk => ?_)
    exact lv_bipush hx hb hd (ga_bip g1 g2) (kk ls _ hL ⟨ga_vr_mi ⟨by omega, by omega⟩, hS⟩)
  case sipush n =>
    simp only [ga_step] at h
    obtain ⟨hd, rfl, -⟩ := hc
    obtain ⟨h1, h2⟩ := ga_cond_inv h
    obtain ⟨g1, g2⟩ := Bool.and_eq_true_iff.mp h1
    have g1 := of_decide_eq_true g1
    have g2 := of_decide_eq_true g2
    refine ga_s_pure hK h2 (fun H ls sv locs k hL hS hZ kk => ?_)
    exact lv_sipush hx hb hd (ga_sip g1 g2) (kk ls _ hL ⟨ga_vr_mi ⟨by omega, by omega⟩, hS⟩)
  case lconst n =>
    simp only [ga_step] at h
    obtain ⟨hd, rfl, -⟩ := hc
    have hn : n = 0 ∨ n = 1 := by omega
    rcases hn with rfl | rfl
    · refine ga_s_pure hK h (fun H ls sv locs k hL hS hZ kk => ?_)
      exact lv_lconst hx hb hd (v := Int64.ofInt 0) rfl (kk ls _ hL ⟨ga_vr_ml ⟨by omega, by omega⟩, hS⟩)
    · refine ga_s_pure hK h (fun H ls sv locs k hL hS hZ kk => ?_)
      exact lv_lconst hx hb hd (v := Int64.ofInt 1) rfl (kk ls _ hL ⟨ga_vr_ml ⟨by omega, by omega⟩, hS⟩)
  case ldc idx =>
    simp only [ga_step] at h
    obtain ⟨hd, rfl, hl⟩ := hc
    refine ga_s_pure hK h (fun H ls sv locs k hL hS hZ kk => ?_)
    exact hP.2.1 idx a d hl.1 hl.2 pc H ls sv locs k (.ldc idx) (Or.inl ⟨rfl, hd⟩) hZ (fun w hw => kk ls (w :: sv) hL ⟨hw, hS⟩)
  case ldc_w idx =>
    simp only [ga_step] at h
    obtain ⟨hd, rfl, hl⟩ := hc
    refine ga_s_pure hK h (fun H ls sv locs k hL hS hZ kk => ?_)
    exact hP.2.1 idx a d hl.1 hl.2 pc H ls sv locs k (.ldc_w idx) (Or.inr ⟨rfl, hd⟩) hZ (fun w hw => kk ls (w :: sv) hL ⟨hw, hS⟩)
  case ldc2_w idx =>
    simp only [ga_step] at h
    obtain ⟨hd, rfl, hl⟩ := hc
    refine ga_s_pure hK h (fun H ls sv locs k hL hS hZ kk => ?_)
    exact hP.2.2 idx d hl pc H ls sv locs k hd hZ (fun w hw => kk ls (w :: sv) hL ⟨hw, hS⟩)
  case getstatic idx =>
    simp only [ga_step] at h
    obtain ⟨hd, rfl, hl⟩ := hc
    refine ga_s_pure hK h (fun H ls sv locs k hL hS hZ kk => ?_)
    exact hP.1 idx a d hl pc H ls sv locs k hd hZ (fun w hw => kk ls (w :: sv) hL ⟨hw, hS⟩)
  case iload j =>
    simp only [ga_step] at h
    obtain ⟨hd, rfl, -⟩ := hc
    obtain ⟨u, v, hm, hu, h2⟩ := ga_load_inv h
    have hu : u = 0 := by omega
    subst hu
    refine ga_s_pure hK h2 (fun H ls sv locs k hL hS hZ kk => ?_)
    obtain ⟨w, hw, hv⟩ := hL.2.2 _ hm
    obtain ⟨rfl, hv2⟩ := ga_vr_i hv
    exact lv_iload hx hb hd  hw (kk ls _ hL ⟨hv, hS⟩)
  case iload_n j =>
    simp only [ga_step] at h
    obtain ⟨hd, rfl, -⟩ := hc
    obtain ⟨u, v, hm, hu, h2⟩ := ga_load_inv h
    have hu : u = 0 := by omega
    subst hu
    refine ga_s_pure hK h2 (fun H ls sv locs k hL hS hZ kk => ?_)
    obtain ⟨w, hw, hv⟩ := hL.2.2 _ hm
    obtain ⟨rfl, hv2⟩ := ga_vr_i hv
    exact lv_iload_n hx hb hd rfl hw (kk ls _ hL ⟨hv, hS⟩)
  case lload j =>
    simp only [ga_step] at h
    obtain ⟨hd, rfl, -⟩ := hc
    obtain ⟨u, v, hm, hu, h2⟩ := ga_load_inv h
    have hu : u = 1 := by omega
    subst hu
    refine ga_s_pure hK h2 (fun H ls sv locs k hL hS hZ kk => ?_)
    obtain ⟨w, hw, hv⟩ := hL.2.2 _ hm
    obtain ⟨rfl, hv2⟩ := ga_vr_l hv
    exact lv_lload hx hb hd  hw (kk ls _ hL ⟨hv, hS⟩)
  case lload_n j =>
    simp only [ga_step] at h
    obtain ⟨hd, rfl, -⟩ := hc
    obtain ⟨u, v, hm, hu, h2⟩ := ga_load_inv h
    have hu : u = 1 := by omega
    subst hu
    refine ga_s_pure hK h2 (fun H ls sv locs k hL hS hZ kk => ?_)
    obtain ⟨w, hw, hv⟩ := hL.2.2 _ hm
    obtain ⟨rfl, hv2⟩ := ga_vr_l hv
    exact lv_lload_n hx hb hd rfl hw (kk ls _ hL ⟨hv, hS⟩)
  case aload j =>
    simp only [ga_step] at h
    obtain ⟨hd, rfl, -⟩ := hc
    obtain ⟨u, v, hm, hu, h2⟩ := ga_load_inv h
    have hu : 1 < u := by omega
    refine ga_s_pure hK h2 (fun H ls sv locs k hL hS hZ kk => ?_)
    obtain ⟨w, hw, hv⟩ := hL.2.2 _ hm
    rcases ga_vr_ref hv hu with ⟨x, rfl⟩ | rfl
    · exact lv_aload hx hb hd  hw (kk ls _ hL ⟨hv, hS⟩)
    · exact lv_aloadN hx hb hd  hw (kk ls _ hL ⟨hv, hS⟩)
  case aload_n j =>
    simp only [ga_step] at h
    obtain ⟨hd, rfl, -⟩ := hc
    obtain ⟨u, v, hm, hu, h2⟩ := ga_load_inv h
    have hu : 1 < u := by omega
    refine ga_s_pure hK h2 (fun H ls sv locs k hL hS hZ kk => ?_)
    obtain ⟨w, hw, hv⟩ := hL.2.2 _ hm
    rcases ga_vr_ref hv hu with ⟨x, rfl⟩ | rfl
    · exact lv_aload_n hx hb hd rfl hw (kk ls _ hL ⟨hv, hS⟩)
    · exact lv_aload_nN hx hb hd rfl hw (kk ls _ hL ⟨hv, hS⟩)
  case istore j =>
    simp only [ga_step] at h
    obtain ⟨hd, rfl, hj⟩ := hc
    obtain ⟨u, v, rest, rfl, hu, h2⟩ := ga_store_inv h
    have hu : u = 0 := by omega
    subst hu
    refine ga_s_pure hK h2 (fun H ls sv locs k hL hS hZ kk => ?_)
    obtain ⟨w, rv, rfl, hv, hS2⟩ := ga_SR_c hS
    obtain ⟨rfl, -⟩ := ga_vr_i hv
    exact lv_istore hx hb hd  (ga_all_has hL.1 hL.2.1) hj rfl (fun ls' h' => kk ls' _ (ga_LR_st hL hv (by omega) h') hS2)
  case lstore j =>
    simp only [ga_step] at h
    obtain ⟨hd, rfl, hj⟩ := hc
    obtain ⟨u, v, rest, rfl, hu, h2⟩ := ga_store_inv h
    have hu : u = 1 := by omega
    subst hu
    refine ga_s_pure hK h2 (fun H ls sv locs k hL hS hZ kk => ?_)
    obtain ⟨w, rv, rfl, hv, hS2⟩ := ga_SR_c hS
    obtain ⟨rfl, -⟩ := ga_vr_l hv
    exact lv_lstore hx hb hd  (ga_all_has hL.1 hL.2.1) hj rfl (fun ls' h' => kk ls' _ (ga_LR_st2 hL hv h') hS2)
  case astore j =>
    simp only [ga_step] at h
    obtain ⟨hd, rfl, hj⟩ := hc
    obtain ⟨u, v, rest, rfl, hu, h2⟩ := ga_store_inv h
    have hu : 1 < u := by omega
    refine ga_s_pure hK h2 (fun H ls sv locs k hL hS hZ kk => ?_)
    obtain ⟨w, rv, rfl, hv, hS2⟩ := ga_SR_c hS
    rcases ga_vr_ref hv hu with ⟨x, rfl⟩ | rfl
    · exact lv_astore hx hb hd  (ga_all_has hL.1 hL.2.1) hj rfl (fun ls' h' => kk ls' _ (ga_LR_st hL hv (by omega) h') hS2)
    · exact lv_astoreN hx hb hd  (ga_all_has hL.1 hL.2.1) hj rfl (fun ls' h' => kk ls' _ (ga_LR_st hL hv (by omega) h') hS2)
  case istore_n j =>
    simp only [ga_step] at h
    obtain ⟨hd, rfl, hj⟩ := hc
    obtain ⟨u, v, rest, rfl, hu, h2⟩ := ga_store_inv h
    have hu : u = 0 := by omega
    subst hu
    refine ga_s_pure hK h2 (fun H ls sv locs k hL hS hZ kk => ?_)
    obtain ⟨w, rv, rfl, hv, hS2⟩ := ga_SR_c hS
    obtain ⟨rfl, -⟩ := ga_vr_i hv
    exact lv_istore_n hx hb hd rfl (ga_all_has hL.1 hL.2.1) hj rfl (fun ls' h' => kk ls' _ (ga_LR_st hL hv (by omega) h') hS2)
  case lstore_n j =>
    simp only [ga_step] at h
    obtain ⟨hd, rfl, hj⟩ := hc
    obtain ⟨u, v, rest, rfl, hu, h2⟩ := ga_store_inv h
    have hu : u = 1 := by omega
    subst hu
    refine ga_s_pure hK h2 (fun H ls sv locs k hL hS hZ kk => ?_)
    obtain ⟨w, rv, rfl, hv, hS2⟩ := ga_SR_c hS
    obtain ⟨rfl, -⟩ := ga_vr_l hv
    exact lv_lstore_n hx hb hd rfl (ga_all_has hL.1 hL.2.1) hj rfl (fun ls' h' => kk ls' _ (ga_LR_st2 hL hv h') hS2)
  case astore_n j =>
    simp only [ga_step] at h
    obtain ⟨hd, rfl, hj⟩ := hc
    obtain ⟨u, v, rest, rfl, hu, h2⟩ := ga_store_inv h
    have hu : 1 < u := by omega
    refine ga_s_pure hK h2 (fun H ls sv locs k hL hS hZ kk => ?_)
    obtain ⟨w, rv, rfl, hv, hS2⟩ := ga_SR_c hS
    rcases ga_vr_ref hv hu with ⟨x, rfl⟩ | rfl
    · exact lv_astore_n hx hb hd rfl (ga_all_has hL.1 hL.2.1) hj rfl (fun ls' h' => kk ls' _ (ga_LR_st hL hv (by omega) h') hS2)
    · exact lv_astore_nN hx hb hd rfl (ga_all_has hL.1 hL.2.1) hj rfl (fun ls' h' => kk ls' _ (ga_LR_st hL hv (by omega) h') hS2)
  case iinc j n =>
    simp only [ga_step] at h
    obtain ⟨hd, rfl, hj⟩ := hc
    obtain ⟨u, v, hm, h2⟩ := ga_get_inv h
    obtain ⟨h1, h2⟩ := ga_cond_inv h2
    have hu := ga_beq h1
    subst hu
    rw [ga_set_eq] at h2
    refine ga_s_pure hK h2 (fun H ls sv locs k hL hS hZ kk => ?_)
    obtain ⟨w, hw, hv⟩ := hL.2.2 _ hm
    obtain ⟨rfl, hv2⟩ := ga_vr_i hv
    obtain ⟨z, hz⟩ := List.getElem?_of_mem (ga_all_mem.mpr hw)
    exact lv_iinc (v := Int32.ofInt (w32 (v + n))) hx hb hd (ga_all_has hL.1 hL.2.1) hz (ga_add32 v n) hj rfl (fun ls' h' => kk ls' _ (ga_LR_st hL (ga_vr_mi (ga_w32_r _)) (by omega) h') hS)
  case iadd =>
    simp only [ga_step] at h
    obtain ⟨hd, rfl, -⟩ := hc
    obtain ⟨x, y, rest, rfl, h2⟩ := ga_bin_inv h
    refine ga_s_pure hK h2 (fun H ls sv locs k hL hS hZ kk => ?_)
    obtain ⟨w1, rv1, rfl, hv1, hS1⟩ := ga_SR_c hS
    obtain ⟨w2, rv2, rfl, hv2, hS2⟩ := ga_SR_c hS1
    obtain ⟨rfl, -⟩ := ga_vr_i hv1
    obtain ⟨rfl, -⟩ := ga_vr_i hv2
    refine lv_iadd hx hb hd ?_
    rw [show Int32.ofInt x + Int32.ofInt y = Int32.ofInt (w32 (x + y)) from ga_add32 x y]
    exact kk ls _ hL ⟨ga_vr_mi (ga_w32_r _), hS2⟩
  case isub =>
    simp only [ga_step] at h
    obtain ⟨hd, rfl, -⟩ := hc
    obtain ⟨x, y, rest, rfl, h2⟩ := ga_bin_inv h
    refine ga_s_pure hK h2 (fun H ls sv locs k hL hS hZ kk => ?_)
    obtain ⟨w1, rv1, rfl, hv1, hS1⟩ := ga_SR_c hS
    obtain ⟨w2, rv2, rfl, hv2, hS2⟩ := ga_SR_c hS1
    obtain ⟨rfl, -⟩ := ga_vr_i hv1
    obtain ⟨rfl, -⟩ := ga_vr_i hv2
    refine lv_isub hx hb hd ?_
    rw [show Int32.ofInt x - Int32.ofInt y = Int32.ofInt (w32 (x - y)) from ga_sub32 x y]
    exact kk ls _ hL ⟨ga_vr_mi (ga_w32_r _), hS2⟩
  case imul =>
    simp only [ga_step] at h
    obtain ⟨hd, rfl, -⟩ := hc
    obtain ⟨x, y, rest, rfl, h2⟩ := ga_bin_inv h
    refine ga_s_pure hK h2 (fun H ls sv locs k hL hS hZ kk => ?_)
    obtain ⟨w1, rv1, rfl, hv1, hS1⟩ := ga_SR_c hS
    obtain ⟨w2, rv2, rfl, hv2, hS2⟩ := ga_SR_c hS1
    obtain ⟨rfl, -⟩ := ga_vr_i hv1
    obtain ⟨rfl, -⟩ := ga_vr_i hv2
    refine lv_imul hx hb hd ?_
    rw [show Int32.ofInt x * Int32.ofInt y = Int32.ofInt (w32 (x * y)) from ga_mul32 x y]
    exact kk ls _ hL ⟨ga_vr_mi (ga_w32_r _), hS2⟩
  case iand =>
    simp only [ga_step] at h
    obtain ⟨hd, rfl, -⟩ := hc
    obtain ⟨x, y, rest, rfl, h2⟩ := ga_bin_inv h
    refine ga_s_pure hK h2 (fun H ls sv locs k hL hS hZ kk => ?_)
    obtain ⟨w1, rv1, rfl, hv1, hS1⟩ := ga_SR_c hS
    obtain ⟨w2, rv2, rfl, hv2, hS2⟩ := ga_SR_c hS1
    obtain ⟨rfl, -⟩ := ga_vr_i hv1
    obtain ⟨rfl, -⟩ := ga_vr_i hv2
    refine lv_iand hx hb hd ?_
    rw [show Int32.ofInt x &&& Int32.ofInt y = Int32.ofInt (ga_iand x y) from (ga_of32 _).symm]
    exact kk ls _ hL ⟨ga_vr_mi (ga_r32 _), hS2⟩
  case ior =>
    simp only [ga_step] at h
    obtain ⟨hd, rfl, -⟩ := hc
    obtain ⟨x, y, rest, rfl, h2⟩ := ga_bin_inv h
    refine ga_s_pure hK h2 (fun H ls sv locs k hL hS hZ kk => ?_)
    obtain ⟨w1, rv1, rfl, hv1, hS1⟩ := ga_SR_c hS
    obtain ⟨w2, rv2, rfl, hv2, hS2⟩ := ga_SR_c hS1
    obtain ⟨rfl, -⟩ := ga_vr_i hv1
    obtain ⟨rfl, -⟩ := ga_vr_i hv2
    refine lv_ior hx hb hd ?_
    rw [show Int32.ofInt x ||| Int32.ofInt y = Int32.ofInt (ga_ior x y) from (ga_of32 _).symm]
    exact kk ls _ hL ⟨ga_vr_mi (ga_r32 _), hS2⟩
  case ixor =>
    simp only [ga_step] at h
    obtain ⟨hd, rfl, -⟩ := hc
    obtain ⟨x, y, rest, rfl, h2⟩ := ga_bin_inv h
    refine ga_s_pure hK h2 (fun H ls sv locs k hL hS hZ kk => ?_)
    obtain ⟨w1, rv1, rfl, hv1, hS1⟩ := ga_SR_c hS
    obtain ⟨w2, rv2, rfl, hv2, hS2⟩ := ga_SR_c hS1
    obtain ⟨rfl, -⟩ := ga_vr_i hv1
    obtain ⟨rfl, -⟩ := ga_vr_i hv2
    refine lv_ixor hx hb hd ?_
    rw [show Int32.ofInt x ^^^ Int32.ofInt y = Int32.ofInt (ga_ixor x y) from (ga_of32 _).symm]
    exact kk ls _ hL ⟨ga_vr_mi (ga_r32 _), hS2⟩
  case ishl =>
    simp only [ga_step] at h
    obtain ⟨hd, rfl, -⟩ := hc
    obtain ⟨x, y, rest, rfl, h2⟩ := ga_bin_inv h
    refine ga_s_pure hK h2 (fun H ls sv locs k hL hS hZ kk => ?_)
    obtain ⟨w1, rv1, rfl, hv1, hS1⟩ := ga_SR_c hS
    obtain ⟨w2, rv2, rfl, hv2, hS2⟩ := ga_SR_c hS1
    obtain ⟨rfl, -⟩ := ga_vr_i hv1
    obtain ⟨rfl, -⟩ := ga_vr_i hv2
    refine lv_ishl hx hb hd ?_
    rw [show Int32.ofInt x <<< (Int32.ofInt y &&& 31) = Int32.ofInt (ga_ishl x y) from (ga_of32 _).symm]
    exact kk ls _ hL ⟨ga_vr_mi (ga_r32 _), hS2⟩
  case ishr =>
    simp only [ga_step] at h
    obtain ⟨hd, rfl, -⟩ := hc
    obtain ⟨x, y, rest, rfl, h2⟩ := ga_bin_inv h
    refine ga_s_pure hK h2 (fun H ls sv locs k hL hS hZ kk => ?_)
    obtain ⟨w1, rv1, rfl, hv1, hS1⟩ := ga_SR_c hS
    obtain ⟨w2, rv2, rfl, hv2, hS2⟩ := ga_SR_c hS1
    obtain ⟨rfl, -⟩ := ga_vr_i hv1
    obtain ⟨rfl, -⟩ := ga_vr_i hv2
    refine lv_ishr hx hb hd ?_
    rw [show Int32.ofInt x >>> (Int32.ofInt y &&& 31) = Int32.ofInt (ga_ishr x y) from (ga_of32 _).symm]
    exact kk ls _ hL ⟨ga_vr_mi (ga_r32 _), hS2⟩
  case ladd =>
    simp only [ga_step] at h
    obtain ⟨hd, rfl, -⟩ := hc
    obtain ⟨x, y, rest, rfl, h2⟩ := ga_bin_inv h
    refine ga_s_pure hK h2 (fun H ls sv locs k hL hS hZ kk => ?_)
    obtain ⟨w1, rv1, rfl, hv1, hS1⟩ := ga_SR_c hS
    obtain ⟨w2, rv2, rfl, hv2, hS2⟩ := ga_SR_c hS1
    obtain ⟨rfl, -⟩ := ga_vr_l hv1
    obtain ⟨rfl, -⟩ := ga_vr_l hv2
    refine lv_ladd hx hb hd ?_
    rw [show Int64.ofInt x + Int64.ofInt y = Int64.ofInt (w64 (x + y)) from ga_add64 x y]
    exact kk ls _ hL ⟨ga_vr_ml (ga_w64_r _), hS2⟩
  case lsub =>
    simp only [ga_step] at h
    obtain ⟨hd, rfl, -⟩ := hc
    obtain ⟨x, y, rest, rfl, h2⟩ := ga_bin_inv h
    refine ga_s_pure hK h2 (fun H ls sv locs k hL hS hZ kk => ?_)
    obtain ⟨w1, rv1, rfl, hv1, hS1⟩ := ga_SR_c hS
    obtain ⟨w2, rv2, rfl, hv2, hS2⟩ := ga_SR_c hS1
    obtain ⟨rfl, -⟩ := ga_vr_l hv1
    obtain ⟨rfl, -⟩ := ga_vr_l hv2
    refine lv_lsub hx hb hd ?_
    rw [show Int64.ofInt x - Int64.ofInt y = Int64.ofInt (w64 (x - y)) from ga_sub64 x y]
    exact kk ls _ hL ⟨ga_vr_ml (ga_w64_r _), hS2⟩
  case lmul =>
    simp only [ga_step] at h
    obtain ⟨hd, rfl, -⟩ := hc
    obtain ⟨x, y, rest, rfl, h2⟩ := ga_bin_inv h
    refine ga_s_pure hK h2 (fun H ls sv locs k hL hS hZ kk => ?_)
    obtain ⟨w1, rv1, rfl, hv1, hS1⟩ := ga_SR_c hS
    obtain ⟨w2, rv2, rfl, hv2, hS2⟩ := ga_SR_c hS1
    obtain ⟨rfl, -⟩ := ga_vr_l hv1
    obtain ⟨rfl, -⟩ := ga_vr_l hv2
    refine lv_lmul hx hb hd ?_
    rw [show Int64.ofInt x * Int64.ofInt y = Int64.ofInt (w64 (x * y)) from ga_mul64 x y]
    exact kk ls _ hL ⟨ga_vr_ml (ga_w64_r _), hS2⟩
  case land =>
    simp only [ga_step] at h
    obtain ⟨hd, rfl, -⟩ := hc
    obtain ⟨x, y, rest, rfl, h2⟩ := ga_bin_inv h
    refine ga_s_pure hK h2 (fun H ls sv locs k hL hS hZ kk => ?_)
    obtain ⟨w1, rv1, rfl, hv1, hS1⟩ := ga_SR_c hS
    obtain ⟨w2, rv2, rfl, hv2, hS2⟩ := ga_SR_c hS1
    obtain ⟨rfl, -⟩ := ga_vr_l hv1
    obtain ⟨rfl, -⟩ := ga_vr_l hv2
    refine lv_land hx hb hd ?_
    rw [show Int64.ofInt x &&& Int64.ofInt y = Int64.ofInt (ga_land x y) from (ga_of64 _).symm]
    exact kk ls _ hL ⟨ga_vr_ml (ga_r64 _), hS2⟩
  case lor =>
    simp only [ga_step] at h
    obtain ⟨hd, rfl, -⟩ := hc
    obtain ⟨x, y, rest, rfl, h2⟩ := ga_bin_inv h
    refine ga_s_pure hK h2 (fun H ls sv locs k hL hS hZ kk => ?_)
    obtain ⟨w1, rv1, rfl, hv1, hS1⟩ := ga_SR_c hS
    obtain ⟨w2, rv2, rfl, hv2, hS2⟩ := ga_SR_c hS1
    obtain ⟨rfl, -⟩ := ga_vr_l hv1
    obtain ⟨rfl, -⟩ := ga_vr_l hv2
    refine lv_lor hx hb hd ?_
    rw [show Int64.ofInt x ||| Int64.ofInt y = Int64.ofInt (ga_lor x y) from (ga_of64 _).symm]
    exact kk ls _ hL ⟨ga_vr_ml (ga_r64 _), hS2⟩
  case lshl =>
    simp only [ga_step] at h
    obtain ⟨hd, rfl, -⟩ := hc
    obtain ⟨x, y, rest, rfl, h2⟩ := ga_bin_inv h
    refine ga_s_pure hK h2 (fun H ls sv locs k hL hS hZ kk => ?_)
    obtain ⟨w1, rv1, rfl, hv1, hS1⟩ := ga_SR_c hS
    obtain ⟨w2, rv2, rfl, hv2, hS2⟩ := ga_SR_c hS1
    obtain ⟨rfl, -⟩ := ga_vr_i hv1
    obtain ⟨rfl, -⟩ := ga_vr_l hv2
    exact lv_lshl (v := Int64.ofInt (ga_lshl x y)) hx hb hd (ga_of64 _).symm (kk ls _ hL ⟨ga_vr_ml (ga_r64 _), hS2⟩)
  case lshr =>
    simp only [ga_step] at h
    obtain ⟨hd, rfl, -⟩ := hc
    obtain ⟨x, y, rest, rfl, h2⟩ := ga_bin_inv h
    refine ga_s_pure hK h2 (fun H ls sv locs k hL hS hZ kk => ?_)
    obtain ⟨w1, rv1, rfl, hv1, hS1⟩ := ga_SR_c hS
    obtain ⟨w2, rv2, rfl, hv2, hS2⟩ := ga_SR_c hS1
    obtain ⟨rfl, -⟩ := ga_vr_i hv1
    obtain ⟨rfl, -⟩ := ga_vr_l hv2
    exact lv_lshr (v := Int64.ofInt (ga_lshr x y)) hx hb hd (ga_of64 _).symm (kk ls _ hL ⟨ga_vr_ml (ga_r64 _), hS2⟩)
  case lushr =>
    simp only [ga_step] at h
    obtain ⟨hd, rfl, -⟩ := hc
    obtain ⟨x, y, rest, rfl, h2⟩ := ga_bin_inv h
    refine ga_s_pure hK h2 (fun H ls sv locs k hL hS hZ kk => ?_)
    obtain ⟨w1, rv1, rfl, hv1, hS1⟩ := ga_SR_c hS
    obtain ⟨w2, rv2, rfl, hv2, hS2⟩ := ga_SR_c hS1
    obtain ⟨rfl, -⟩ := ga_vr_i hv1
    obtain ⟨rfl, -⟩ := ga_vr_l hv2
    exact lv_lushr (v := Int64.ofInt (ga_lushr x y)) hx hb hd (ga_of64 _).symm (kk ls _ hL ⟨ga_vr_ml (ga_r64 _), hS2⟩)
  case idiv =>
    simp only [ga_step] at h
    obtain ⟨hd, rfl, -⟩ := hc
    split at h
    · rename_i t2 y t1 x rest
      obtain ⟨h1, h2⟩ := ga_cond_inv h
      obtain ⟨g1, g2⟩ := Bool.and_eq_true_iff.mp h1
      have g1 := ga_beq g1
      have g2 := ga_beq g2
      subst g1; subst g2
      obtain ⟨hne, h2⟩ := ga_nz_inv h2
      refine ga_s_pure hK h2 (fun H ls sv locs k hL hS hZ kk => ?_)
      obtain ⟨w1, rv1, rfl, hv1, hS1⟩ := ga_SR_c hS
      obtain ⟨w2, rv2, rfl, hv2, hS2⟩ := ga_SR_c hS1
      obtain ⟨rfl, ry⟩ := ga_vr_i hv1
      obtain ⟨rfl, rx⟩ := ga_vr_i hv2
      refine lv_idiv hx hb hd (fun z => hne ((ga_eqi ry (show ga_R32 0 from ⟨by omega, by omega⟩)).mp z)) ?_
      rw [ga_div32 rx ry]
      exact kk ls _ hL ⟨ga_vr_mi (ga_w32_r _), hS2⟩
    · cases h
  case irem =>
    simp only [ga_step] at h
    obtain ⟨hd, rfl, -⟩ := hc
    split at h
    · rename_i t2 y t1 x rest
      obtain ⟨h1, h2⟩ := ga_cond_inv h
      obtain ⟨g1, g2⟩ := Bool.and_eq_true_iff.mp h1
      have g1 := ga_beq g1
      have g2 := ga_beq g2
      subst g1; subst g2
      obtain ⟨hne, h2⟩ := ga_nz_inv h2
      refine ga_s_pure hK h2 (fun H ls sv locs k hL hS hZ kk => ?_)
      obtain ⟨w1, rv1, rfl, hv1, hS1⟩ := ga_SR_c hS
      obtain ⟨w2, rv2, rfl, hv2, hS2⟩ := ga_SR_c hS1
      obtain ⟨rfl, ry⟩ := ga_vr_i hv1
      obtain ⟨rfl, rx⟩ := ga_vr_i hv2
      refine lv_irem hx hb hd (fun z => hne ((ga_eqi ry (show ga_R32 0 from ⟨by omega, by omega⟩)).mp z)) ?_
      rw [ga_rem32 rx ry]
      exact kk ls _ hL ⟨ga_vr_mi (ga_w32_r _), hS2⟩
    · cases h
  case lcmp =>
    simp only [ga_step] at h
    obtain ⟨hd, rfl, -⟩ := hc
    split at h
    · rename_i t2 y t1 x rest
      obtain ⟨h1, h2⟩ := ga_cond_inv h
      obtain ⟨g1, g2⟩ := Bool.and_eq_true_iff.mp h1
      have g1 := ga_beq g1
      have g2 := ga_beq g2
      subst g1; subst g2
      refine ga_s_pure hK h2 (fun H ls sv locs k hL hS hZ kk => ?_)
      obtain ⟨w1, rv1, rfl, hv1, hS1⟩ := ga_SR_c hS
      obtain ⟨w2, rv2, rfl, hv2, hS2⟩ := ga_SR_c hS1
      obtain ⟨rfl, ry⟩ := ga_vr_l hv1
      obtain ⟨rfl, rx⟩ := ga_vr_l hv2
      refine W.lcmp hx hb hd ?_
      rw [ga_cmpl rx ry]
      refine kk ls _ hL ⟨ga_vr_mi ?_, hS2⟩
      unfold ga_lcmp ga_R32
      split
      · omega
      · split <;> omega
    · cases h
  case ineg =>
    simp only [ga_step] at h
    obtain ⟨hd, rfl, -⟩ := hc
    obtain ⟨x, rest, rfl, h2⟩ := ga_una_inv h
    refine ga_s_pure hK h2 (fun H ls sv locs k hL hS hZ kk => ?_)
    obtain ⟨w1, rv1, rfl, hv1, hS1⟩ := ga_SR_c hS
    obtain ⟨rfl, -⟩ := ga_vr_i hv1
    refine lv_ineg hx hb hd ?_
    rw [ga_neg32]
    exact kk ls _ hL ⟨ga_vr_mi (ga_w32_r _), hS1⟩
  case i2l =>
    simp only [ga_step] at h
    obtain ⟨hd, rfl, -⟩ := hc
    obtain ⟨x, rest, rfl, h2⟩ := ga_una_inv h
    refine ga_s_pure hK h2 (fun H ls sv locs k hL hS hZ kk => ?_)
    obtain ⟨w1, rv1, rfl, hv1, hS1⟩ := ga_SR_c hS
    obtain ⟨rfl, rx⟩ := ga_vr_i hv1
    exact lv_i2l (v := Int64.ofInt x) hx hb hd (ga_i2l rx) (kk ls _ hL ⟨ga_vr_ml ⟨by have := rx.1; omega, by have := rx.2; omega⟩, hS1⟩)
  case l2i =>
    simp only [ga_step] at h
    obtain ⟨hd, rfl, -⟩ := hc
    obtain ⟨x, rest, rfl, h2⟩ := ga_una_inv h
    refine ga_s_pure hK h2 (fun H ls sv locs k hL hS hZ kk => ?_)
    obtain ⟨w1, rv1, rfl, hv1, hS1⟩ := ga_SR_c hS
    obtain ⟨rfl, -⟩ := ga_vr_l hv1
    exact lv_l2i (v := Int32.ofInt (w32 x)) hx hb hd (ga_l2i x) (kk ls _ hL ⟨ga_vr_mi (ga_w32_r _), hS1⟩)
  case i2b =>
    simp only [ga_step] at h
    obtain ⟨hd, rfl, -⟩ := hc
    obtain ⟨x, rest, rfl, h2⟩ := ga_una_inv h
    refine ga_s_pure hK h2 (fun H ls sv locs k hL hS hZ kk => ?_)
    obtain ⟨w1, rv1, rfl, hv1, hS1⟩ := ga_SR_c hS
    obtain ⟨rfl, -⟩ := ga_vr_i hv1
    exact lv_i2b (v := Int32.ofInt (w8 x)) hx hb hd (ga_i2b x) (kk ls _ hL ⟨ga_vr_mi (show ga_R32 (w8 x) from by unfold ga_R32 w8; omega), hS1⟩)
  case dup =>
    simp only [ga_step] at h
    obtain ⟨hd, rfl, -⟩ := hc
    split at h
    · rename_i t x rest
      obtain ⟨h1, h2⟩ := ga_ncond_inv h
      refine ga_s_pure hK h2 (fun H ls sv locs k hL hS hZ kk => ?_)
      obtain ⟨w1, rv1, rfl, hv1, hS1⟩ := ga_SR_c hS
      exact lv_dup hx hb hd (by rw [ga_vr_cat hv1]; exact ga_cat1 h1) (kk ls _ hL ⟨hv1, hv1, hS1⟩)
    · cases h
  case pop =>
    simp only [ga_step] at h
    obtain ⟨hd, rfl, -⟩ := hc
    split at h
    · rename_i t x rest
      obtain ⟨h1, h2⟩ := ga_ncond_inv h
      refine ga_s_pure hK h2 (fun H ls sv locs k hL hS hZ kk => ?_)
      obtain ⟨w1, rv1, rfl, hv1, hS1⟩ := ga_SR_c hS
      exact lv_pop hx hb hd (by rw [ga_vr_cat hv1]; exact ga_cat1 h1) (kk ls _ hL hS1)
    · cases h
  case dup_x1 =>
    simp only [ga_step] at h
    obtain ⟨hd, rfl, -⟩ := hc
    split at h
    · rename_i t x u y rest
      obtain ⟨h1, h2⟩ := ga_ncond_inv h
      obtain ⟨g1, g2⟩ := Bool.or_eq_false_iff.mp h1
      refine ga_s_pure hK h2 (fun H ls sv locs k hL hS hZ kk => ?_)
      obtain ⟨w1, rv1, rfl, hv1, hS1⟩ := ga_SR_c hS
      obtain ⟨w2, rv2, rfl, hv2, hS2⟩ := ga_SR_c hS1
      exact lv_dup_x1 hx hb hd (by rw [ga_vr_cat hv1]; exact ga_cat1 g1) (by rw [ga_vr_cat hv2]; exact ga_cat1 g2) (kk ls _ hL ⟨hv1, hv2, hv1, hS2⟩)
    · cases h
  case dup2 =>
    simp only [ga_step] at h
    obtain ⟨hd, rfl, -⟩ := hc
    split at h
    · rename_i t x u y rest
      obtain ⟨h1, h2⟩ := ga_ncond_inv h
      obtain ⟨g1, g2⟩ := Bool.or_eq_false_iff.mp h1
      refine ga_s_pure hK h2 (fun H ls sv locs k hL hS hZ kk => ?_)
      obtain ⟨w1, rv1, rfl, hv1, hS1⟩ := ga_SR_c hS
      obtain ⟨w2, rv2, rfl, hv2, hS2⟩ := ga_SR_c hS1
      exact lv_dup2_11 hx hb hd (by rw [ga_vr_cat hv1]; exact ga_cat1 g1) (by rw [ga_vr_cat hv2]; exact ga_cat1 g2) (kk ls _ hL ⟨hv1, hv2, hv1, hv2, hS2⟩)
    · cases h
  case ifCond q off =>
    simp only [ga_step] at h
    obtain ⟨hd, rfl, ht⟩ := hc
    have hz0 : ga_R32 0 := ⟨by omega, by omega⟩
    split at h
    · rename_i t x rest
      obtain ⟨h1, h2⟩ := ga_cond_inv h
      have h1 := ga_beq h1
      subst h1
      cases q
      · refine ga_s_br hK (show (if _ then K _ L _ σ else K _ L _ σ) = some r from h2) (fun H ls sv locs k hL hS kt kf => ?_)
        obtain ⟨w1, rv1, rfl, hv1, hS1⟩ := ga_SR_c hS
        obtain ⟨rfl, rx⟩ := ga_vr_i hv1
        exact lv_if_eq hx hb hd ht (fun z => kt ((ga_eqi rx hz0).mp z) _ hS1) (fun z => kf (fun y => z ((ga_eqi rx hz0).mpr y)) _ hS1)
      · refine ga_s_br hK (show (if _ then K _ L _ σ else K _ L _ σ) = some r from h2) (fun H ls sv locs k hL hS kt kf => ?_)
        obtain ⟨w1, rv1, rfl, hv1, hS1⟩ := ga_SR_c hS
        obtain ⟨rfl, rx⟩ := ga_vr_i hv1
        exact lv_if_ne hx hb hd ht (fun z => kf (fun y => z ((ga_eqi rx hz0).mpr y)) _ hS1) (fun z => kt ((ga_eqi rx hz0).mp z) _ hS1)
      · refine ga_s_br hK (show (if _ then K _ L _ σ else K _ L _ σ) = some r from h2) (fun H ls sv locs k hL hS kt kf => ?_)
        obtain ⟨w1, rv1, rfl, hv1, hS1⟩ := ga_SR_c hS
        obtain ⟨rfl, rx⟩ := ga_vr_i hv1
        exact lv_if_lt hx hb hd ht (fun z => kt ((ga_lti rx hz0).mp z) _ hS1) (fun z => kf (fun y => z ((ga_lti rx hz0).mpr y)) _ hS1)
      · refine ga_s_br hK (show (if _ then K _ L _ σ else K _ L _ σ) = some r from h2) (fun H ls sv locs k hL hS kt kf => ?_)
        obtain ⟨w1, rv1, rfl, hv1, hS1⟩ := ga_SR_c hS
        obtain ⟨rfl, rx⟩ := ga_vr_i hv1
        exact lv_if_ge hx hb hd ht (fun z => kf (fun y => absurd ((ga_lei hz0 rx).mp z) (by omega)) _ hS1) (fun z => kt (Int.not_le.mp (fun y => z ((ga_lei hz0 rx).mpr y))) _ hS1)
      · refine ga_s_br hK (show (if _ then K _ L _ σ else K _ L _ σ) = some r from h2) (fun H ls sv locs k hL hS kt kf => ?_)
        obtain ⟨w1, rv1, rfl, hv1, hS1⟩ := ga_SR_c hS
        obtain ⟨rfl, rx⟩ := ga_vr_i hv1
        exact lv_if_gt hx hb hd ht (fun z => kt ((ga_lti hz0 rx).mp z) _ hS1) (fun z => kf (fun y => z ((ga_lti hz0 rx).mpr y)) _ hS1)
      · refine ga_s_br hK (show (if _ then K _ L _ σ else K _ L _ σ) = some r from h2) (fun H ls sv locs k hL hS kt kf => ?_)
        obtain ⟨w1, rv1, rfl, hv1, hS1⟩ := ga_SR_c hS
        obtain ⟨rfl, rx⟩ := ga_vr_i hv1
        exact lv_if_le hx hb hd ht (fun z => kf (fun y => absurd ((ga_lei rx hz0).mp z) (by omega)) _ hS1) (fun z => kt (Int.not_le.mp (fun y => z ((ga_lei rx hz0).mpr y))) _ hS1)
    · cases h
  case if_icmp q off =>
    simp only [ga_step] at h
    obtain ⟨hd, rfl, ht⟩ := hc
    split at h
    · rename_i t2 y t1 x rest
      obtain ⟨h1, h2⟩ := ga_cond_inv h
      obtain ⟨g1, g2⟩ := Bool.and_eq_true_iff.mp h1
      have g1 := ga_beq g1
      have g2 := ga_beq g2
      subst g1; subst g2
      cases q
      · refine ga_s_br hK (show (if _ then K _ L _ σ else K _ L _ σ) = some r from h2) (fun H ls sv locs k hL hS kt kf => ?_)
        obtain ⟨w1, rv1, rfl, hv1, hS1⟩ := ga_SR_c hS
        obtain ⟨w2, rv2, rfl, hv2, hS2⟩ := ga_SR_c hS1
        obtain ⟨rfl, ry⟩ := ga_vr_i hv1
        obtain ⟨rfl, rx⟩ := ga_vr_i hv2
        exact lv_icmp_eq hx hb hd ht (fun z => kt ((ga_eqi rx ry).mp z) _ hS2) (fun z => kf (fun y => z ((ga_eqi rx ry).mpr y)) _ hS2)
      · refine ga_s_br hK (show (if _ then K _ L _ σ else K _ L _ σ) = some r from h2) (fun H ls sv locs k hL hS kt kf => ?_)
        obtain ⟨w1, rv1, rfl, hv1, hS1⟩ := ga_SR_c hS
        obtain ⟨w2, rv2, rfl, hv2, hS2⟩ := ga_SR_c hS1
        obtain ⟨rfl, ry⟩ := ga_vr_i hv1
        obtain ⟨rfl, rx⟩ := ga_vr_i hv2
        exact lv_icmp_ne hx hb hd ht (fun z => kf (fun y => z ((ga_eqi rx ry).mpr y)) _ hS2) (fun z => kt ((ga_eqi rx ry).mp z) _ hS2)
      · refine ga_s_br hK (show (if _ then K _ L _ σ else K _ L _ σ) = some r from h2) (fun H ls sv locs k hL hS kt kf => ?_)
        obtain ⟨w1, rv1, rfl, hv1, hS1⟩ := ga_SR_c hS
        obtain ⟨w2, rv2, rfl, hv2, hS2⟩ := ga_SR_c hS1
        obtain ⟨rfl, ry⟩ := ga_vr_i hv1
        obtain ⟨rfl, rx⟩ := ga_vr_i hv2
        exact lv_icmp_lt hx hb hd ht (fun z => kt ((ga_lti rx ry).mp z) _ hS2) (fun z => kf (fun y => z ((ga_lti rx ry).mpr y)) _ hS2)
      · refine ga_s_br hK (show (if _ then K _ L _ σ else K _ L _ σ) = some r from h2) (fun H ls sv locs k hL hS kt kf => ?_)
        obtain ⟨w1, rv1, rfl, hv1, hS1⟩ := ga_SR_c hS
        obtain ⟨w2, rv2, rfl, hv2, hS2⟩ := ga_SR_c hS1
        obtain ⟨rfl, ry⟩ := ga_vr_i hv1
        obtain ⟨rfl, rx⟩ := ga_vr_i hv2
        exact lv_icmp_ge hx hb hd ht (fun z => kf (fun y => absurd ((ga_lei ry rx).mp z) (by omega)) _ hS2) (fun z => kt (Int.not_le.mp (fun y => z ((ga_lei ry rx).mpr y))) _ hS2)
      · refine ga_s_br hK (show (if _ then K _ L _ σ else K _ L _ σ) = some r from h2) (fun H ls sv locs k hL hS kt kf => ?_)
        obtain ⟨w1, rv1, rfl, hv1, hS1⟩ := ga_SR_c hS
        obtain ⟨w2, rv2, rfl, hv2, hS2⟩ := ga_SR_c hS1
        obtain ⟨rfl, ry⟩ := ga_vr_i hv1
        obtain ⟨rfl, rx⟩ := ga_vr_i hv2
        exact lv_icmp_gt hx hb hd ht (fun z => kt ((ga_lti ry rx).mp z) _ hS2) (fun z => kf (fun y => z ((ga_lti ry rx).mpr y)) _ hS2)
      · refine ga_s_br hK (show (if _ then K _ L _ σ else K _ L _ σ) = some r from h2) (fun H ls sv locs k hL hS kt kf => ?_)
        obtain ⟨w1, rv1, rfl, hv1, hS1⟩ := ga_SR_c hS
        obtain ⟨w2, rv2, rfl, hv2, hS2⟩ := ga_SR_c hS1
        obtain ⟨rfl, ry⟩ := ga_vr_i hv1
        obtain ⟨rfl, rx⟩ := ga_vr_i hv2
        exact lv_icmp_le hx hb hd ht (fun z => kf (fun y => absurd ((ga_lei rx ry).mp z) (by omega)) _ hS2) (fun z => kt (Int.not_le.mp (fun y => z ((ga_lei rx ry).mpr y))) _ hS2)
    · cases h
  case if_acmp q off =>
    simp only [ga_step] at h
    obtain ⟨hd, rfl, ht⟩ := hc
    split at h
    · rename_i t2 y t1 x rest
      obtain ⟨h1, h2⟩ := ga_cond_inv h
      obtain ⟨g1, g2⟩ := Bool.and_eq_true_iff.mp h1
      have g1 := ga_blt g1
      have g2 := ga_beq g2
      subst g2
      obtain ⟨cq, rfl⟩ : ∃ cq, t1 = cq + 3 := ⟨t1 - 3, by omega⟩
      cases q
      · refine ga_s_br hK (show (if _ then K _ L _ σ else K _ L _ σ) = some r from h2) (fun H ls sv locs k hL hS kt kf => ?_)
        obtain ⟨w1, rv1, rfl, hv1, hS1⟩ := ga_SR_c hS
        obtain ⟨w2, rv2, rfl, hv2, hS2⟩ := ga_SR_c hS1
        obtain ⟨rx, ry, e1, e2, hxy⟩ := ga_refs hT hv2 hv1
        subst e1; subst e2
        exact lv_acmp_eq hx hb hd ht (fun z => kt (hxy.mp z) _ hS2) (fun z => kf (fun y => z (hxy.mpr y)) _ hS2)
      · refine ga_s_br hK (show (if _ then K _ L _ σ else K _ L _ σ) = some r from h2) (fun H ls sv locs k hL hS kt kf => ?_)
        obtain ⟨w1, rv1, rfl, hv1, hS1⟩ := ga_SR_c hS
        obtain ⟨w2, rv2, rfl, hv2, hS2⟩ := ga_SR_c hS1
        obtain ⟨rx, ry, e1, e2, hxy⟩ := ga_refs hT hv2 hv1
        subst e1; subst e2
        exact lv_acmp_ne hx hb hd ht (fun z => kf (fun y => z (hxy.mpr y)) _ hS2) (fun z => kt (hxy.mp z) _ hS2)
    · cases h
  case goto off =>
    simp only [ga_step] at h
    obtain ⟨hd, rfl, ht⟩ := hc
    refine ga_s_pure hK h (fun H ls sv locs k hL hS hZ kk => ?_)
    exact lv_goto hx hb hd ht (kk ls _ hL hS)
  case tableswitch q lo hi offs =>
    simp only [ga_step] at h
    obtain ⟨⟨len, hd⟩, hhi, hq, ho⟩ := hc
    split at h
    · rename_i t x rest
      obtain ⟨h1, h2⟩ := ga_cond_inv h
      have h1 := ga_beq h1
      subst h1
      obtain ⟨tg, h3, h4⟩ := ga_sw_tab offs.toList lo h2
      refine ga_s_pure hK h3 (fun H ls sv locs k hL hS hZ kk => ?_)
      obtain ⟨w1, rv1, rfl, hv1, hS1⟩ := ga_SR_c hS
      obtain ⟨rfl, rx⟩ := ga_vr_i hv1
      rcases h4 with ⟨j, o, hj, rfl, rfl⟩ | ⟨z, rfl⟩
      · have hjl : j < offs.size := by rw [← Array.length_toList]; exact (List.getElem?_eq_some_iff.mp hj).1
        exact lv_tableIn hx hb hd (by rw [ga_ti rx]; omega) (by rw [ga_ti rx]; omega) (off := o) (by rw [ga_ti rx, show (lo + (j : Int) - lo).toNat = j by omega, ← Array.getElem?_toList]; exact hj) (by have := ho o (List.mem_of_getElem? hj); unfold ga_tg; omega) (kk ls _ hL hS1)
      · exact lv_tableOut hx hb hd (by rw [ga_ti rx]; rcases z with z | z; exact Or.inl z; right; rw [Array.length_toList] at z; omega) (by unfold ga_tg; omega) (kk ls _ hL hS1)
    · cases h
  case lookupswitch q ps =>
    simp only [ga_step] at h
    obtain ⟨⟨len, hd⟩, hp, hq, ho⟩ := hc
    split at h
    · rename_i t x rest
      obtain ⟨h1, h2⟩ := ga_cond_inv h
      have h1 := ga_beq h1
      subst h1
      obtain ⟨o, h3, h4, h5⟩ := ga_sw_lkp (pc := pc) (x := x) ps.toList h2
      refine ga_s_pure hK h3 (fun H ls sv locs k hL hS hZ kk => ?_)
      obtain ⟨w1, rv1, rfl, hv1, hS1⟩ := ga_SR_c hS
      obtain ⟨rfl, rx⟩ := ga_vr_i hv1
      refine lv_lookup hx hb hd hp (off := o) (by rw [ga_ti rx]; exact h4) ?_ (kk ls _ hL hS1)
      rcases h5 with rfl | ⟨z, hz, rfl⟩
      · unfold ga_tg; omega
      · have := ho z hz; unfold ga_tg; omega
    · cases h
  case getfield idx =>
    simp only [ga_step] at h
    obtain ⟨hd, rfl, hG, C, T, N, hcl, hbN, hlink⟩ := hc
    unfold ga_fget at h
    split at h
    · rename_i ta x rest
      obtain ⟨h1, h2⟩ := ga_cond_inv h
      have h1 := ga_beq h1
      subst h1
      obtain ⟨n, h3, h4⟩ := ga_obj_K h2
      have h5 := ga_fvK (Y := Y) h4
      rw [← hG] at h5
      refine ga_s_rd hK h5 (fun H ls sv locs k hH hL hS hZ kk => ?_)
      obtain ⟨w1, rv1, rfl, hv1, hS1⟩ := ga_SR_c hS
      rw [Nat.add_comm] at hv1
      obtain ⟨n, rfl, hn, rfl⟩ := ga_ob hv1 h3
      obtain ⟨ho', hvk⟩ := (hH a n hn).1 _ hcl
      have ho := ho'.ob (Nat.lt_of_le_of_lt (Nat.zero_le _) hbN)
      obtain ⟨hin, hnm, ty, hty⟩ := hT.2.2.1 a C T N hcl
      have hTC := (hty b hbN).2.1
      have hfs : ((List.range N).map (fun k => ga_cv Y.1 (ga_fv (Y.2.2.1.2.1 a k) n σ)))[b]? = some (ga_cv Y.1 (ga_fv (Y.2.2.1.2.1 a b) n σ)) := by simp [hbN]
      have hkk := kk ls (ga_cv Y.1 (ga_fv (Y.2.2.1.2.1 a b) n σ) :: rv1) hL ⟨ga_vr_mk (hvk b hbN), hS1⟩
      rcases hlink with hl | ⟨host, hl⟩
      · exact va_get (ref := C) hx hb hts hin hown hKN.1 (ga_P1 hcl ho) 0 rfl hcl b hbN (hts _ hl) (by rw [hTC]; exact fun _ z => z) hfs hd hkk
      · exact va_getN (ref := C) hx hb hts hin hown hKN.1 (ga_P1 hcl ho) 0 rfl hcl b hbN (hts _ hl) (by rw [hTC]; exact fun _ z => z) hfs hd hkk
    · cases h
  case putfield idx =>
    simp only [ga_step] at h
    obtain ⟨hd, rfl, hG, C, T, N, hcl, hbN, hlink⟩ := hc
    unfold ga_fput at h
    split at h
    · rename_i tv v ta x rest
      obtain ⟨h1, h2⟩ := ga_cond_inv h
      obtain ⟨g1, g3⟩ := Bool.and_eq_true_iff.mp h1
      obtain ⟨g1, g2⟩ := Bool.and_eq_true_iff.mp g1
      have g1 := ga_beq g1
      have g2 := ga_blt g2
      have g3 := ga_beq g3
      subst g1; subst g3
      obtain ⟨n, h3, h4⟩ := ga_obj_K h2
      have hz : (d = 1 → v = 0 ∨ v = 1) ∧ K (pc + 3) L rest (ga_up σ e n 0 v) = some r := by
        by_cases hd1 : d = 1
        · rw [hd1] at h4
          obtain ⟨a1, a2⟩ := ga_01_inv h4
          exact ⟨fun _ => a1, a2⟩
        · rw [show (d == 1) = false from beq_eq_false_iff_ne.mpr hd1] at h4
          exact ⟨fun z => absurd z hd1, h4⟩
      obtain ⟨hz1, h5⟩ := hz
      obtain ⟨hin, hnm, ty, hty⟩ := hT.2.2.1 a C T N hcl
      obtain ⟨hpd, hTC, hsc⟩ := hty b hbN
      rw [hG] at hsc
      obtain ⟨hro, hfin, htt⟩ := hsc g2
      have hne : e ≠ 330 := by
        obtain ⟨inv, hi1, -⟩ := hT.2.1
        have := (hi1 a _ b hcl hbN (by rw [hG]; exact g2)).2
        rw [hG] at this
        exact this
      refine ga_s_wr hSS hK h5 (ga_al_up hne) (fun H ls sv locs k hH hL hS kk => ?_)
      obtain ⟨w1, rv1, rfl, hv1, hS1⟩ := ga_SR_c hS
      obtain ⟨w2, rv2, rfl, hv2, hS2⟩ := ga_SR_c hS1
      rw [Nat.add_comm] at hv2
      obtain ⟨n, rfl, hn, rfl⟩ := ga_ob hv2 h3
      obtain ⟨ho', hvk⟩ := (hH a n hn).1 _ hcl
      have ho := ho'.ob (Nat.lt_of_le_of_lt (Nat.zero_le _) hbN)
      have hne2 : tv ≠ 2 := by
        rcases htt with ⟨z, -⟩ | ⟨z, -⟩
        · dsimp only at z; omega
        · dsimp only at z; omega
      obtain ⟨rfl, hvv⟩ : w1 = ga_cv Y.1 (tv, v) ∧ ga_vk Y (tv, v) := by
        rcases hv1 with ⟨z, -⟩ | z
        · exact absurd z hne2
        · exact z
      have hnf : narrow (ty b) (ga_cv Y.1 (tv, v)) = ga_cv Y.1 (tv, v) ∧ fits (ty b) (ga_cv Y.1 (tv, v)) = true := by
        rcases htt with ⟨z, z2⟩ | ⟨z, n0, z2⟩
        · dsimp only at z
          subst z
          rcases z2 with ⟨z3, -⟩ | ⟨z3, z4⟩
          · rw [z3]; exact ⟨rfl, rfl⟩
          · rw [z3]
            rcases hz1 z4 with rfl | rfl
            · exact ⟨rfl, rfl⟩
            · exact ⟨rfl, rfl⟩
        · dsimp only at z
          rw [z2]
          obtain ⟨cq, rfl⟩ : ∃ cq, tv = cq + 3 := ⟨tv - 3, by omega⟩
          unfold ga_cv
          dsimp only
          split
          · exact ⟨rfl, rfl⟩
          · exact ⟨rfl, rfl⟩
      refine ga_Wput hx hb hts hin ty (fun k hk => (hty k hk).1) hnm hown hKN.1 ho hcl b hbN hlink hTC hfin hnf.1 hnf.2 hd (fun H1 i o1 z1 q1 => ?_)
      have hu := ga_Hd_fld hT hH hn hcl hbN (v := v) (by rw [hG]; exact g2) (by rw [hG]; exact hvv) (by rw [hG]; exact o1) q1
      rw [hG] at hu
      exact kk rv2 H1 (Y.1.1 a n) i hS2 hu z1 ⟨a, n, hro, hn, rfl⟩ q1
    · cases h
  case arraylength =>
    simp only [ga_step] at h
    obtain ⟨hd, rfl, -⟩ := hc
    split at h
    · rename_i ta x rest
      obtain ⟨h1, h2⟩ := ga_cond_inv h
      have h1 : (Y.2.2.1.2.2 ta).1 < 5 := ga_blt h1
      obtain ⟨n, h3, h4⟩ := ga_obj_K h2
      refine ga_s_rd hK h4 (fun H ls sv locs k hH hL hS hZ kk => ?_)
      obtain ⟨w1, rv1, rfl, hv1, hS1⟩ := ga_SR_c hS
      obtain ⟨n, rfl, hn, rfl⟩ := ga_ob hv1 h3
      have hna := ga_isarr hT (c := ta) h1
      obtain ⟨ho, hvk⟩ := (hH ta n hn).2.1 hna
      obtain ⟨l1, l2, -⟩ := hT.2.2.2.1 ta hna (by omega)
      have hsz : (arrV (Y.1.2.1 ta) (Y.2.2.1.2.2 ta).2.1.toNat (fun i => ga_cv Y.1 (ga_av (Y.2.2.1.2.2 ta) n i σ))).slots.size.toInt32 = Int32.ofInt (Y.2.2.1.2.2 ta).2.1 := by
        rw [arrV_size]
        show Int32.ofNat (Y.2.2.1.2.2 ta).2.1.toNat = _
        apply Int32.toInt_inj.mp
        rw [ga_ti (show ga_R32 (Y.2.2.1.2.2 ta).2.1 from ⟨by omega, l2⟩)]
        exact (nI_toInt (n := (Y.2.2.1.2.2 ta).2.1.toNat) (by omega)).trans (by omega)
      have hkk := kk ls (.int (Int32.ofInt (Y.2.2.1.2.2 ta).2.1) :: rv1) hL ⟨ga_vr_mi (show ga_R32 (Y.2.2.1.2.2 ta).2.1 from ⟨by omega, l2⟩), hS1⟩
      obtain ⟨ka, kb⟩ := hKN.2 ta hna (by omega)
      by_cases h4' : (Y.2.2.1.2.2 ta).1 < 4
      · exact W.alen hx hb ho (ka h4' _ _) hsz rfl rfl hd hkk
      · obtain ⟨⟨ty, -, hty⟩, -⟩ := kb (by omega)
        exact W.alen hx hb ho (hty _ _) hsz rfl rfl hd hkk
    · cases h
  case iaload =>
    simp only [ga_step] at h
    obtain ⟨hd, rfl, -⟩ := hc
    obtain ⟨i, x, n, ta, rest, rfl, he, h3, i0, i1, h5⟩ := ga_aload_inv h
    refine ga_s_rd hK h5 (fun H ls sv locs k hH hL hS hZ kk => ?_)
    obtain ⟨w1, rv1, rfl, hv1, hS1⟩ := ga_SR_c hS
    obtain ⟨w2, rv2, rfl, hv2, hS2⟩ := ga_SR_c hS1
    obtain ⟨rfl, ri⟩ := ga_vr_i hv1
    obtain ⟨n, rfl, hn, rfl⟩ := ga_ob hv2 h3
    have hna := ga_isarr hT (c := ta) (by omega)
    obtain ⟨ho, hvk⟩ := (hH ta n hn).2.1 hna
    obtain ⟨ka, kb⟩ := hKN.2 ta hna (by omega)
    have hcl := ga_clamp ri i0
    have hii : ((i.toNat : Nat) : Int) = i := by omega
    have hltN : i.toNat < (Y.2.2.1.2.2 ta).2.1.toNat := by omega
    have hin : ¬ (Int32.ofInt i < 0 ∨ (arrV (Y.1.2.1 ta) (Y.2.2.1.2.2 ta).2.1.toNat (fun i => ga_cv Y.1 (ga_av (Y.2.2.1.2.2 ta) n i σ))).slots.size ≤ (Int32.ofInt i).toNatClampNeg) := by
      rw [arrV_size]
      exact (ga_in_iff ri).mpr ⟨i0, by omega⟩
    have hrd : (arrV (Y.1.2.1 ta) (Y.2.2.1.2.2 ta).2.1.toNat (fun i => ga_cv Y.1 (ga_av (Y.2.2.1.2.2 ta) n i σ))).slots[(Int32.ofInt i).toNatClampNeg]? = some (ga_cv Y.1 (ga_av (Y.2.2.1.2.2 ta) n i σ)) := by
      rw [hcl, arrV_read _ _ hltN, hii]
    have hkk := kk ls (ga_cv Y.1 (ga_av (Y.2.2.1.2.2 ta) n i σ) :: rv2) hL ⟨ga_vr_mk (by have := hvk i.toNat (by omega); rw [hii] at this; exact this), hS2⟩
    
    have he : (Y.2.2.1.2.2 ta).1 = 0 := by omega
    have ka := ka (by omega)
    rw [he] at ka
    exact W.iald hx hb ho (ka _ _) (fun z => by cases z) hin hrd rfl rfl hd hkk
  case laload =>
    simp only [ga_step] at h
    obtain ⟨hd, rfl, -⟩ := hc
    obtain ⟨i, x, n, ta, rest, rfl, he, h3, i0, i1, h5⟩ := ga_aload_inv h
    refine ga_s_rd hK h5 (fun H ls sv locs k hH hL hS hZ kk => ?_)
    obtain ⟨w1, rv1, rfl, hv1, hS1⟩ := ga_SR_c hS
    obtain ⟨w2, rv2, rfl, hv2, hS2⟩ := ga_SR_c hS1
    obtain ⟨rfl, ri⟩ := ga_vr_i hv1
    obtain ⟨n, rfl, hn, rfl⟩ := ga_ob hv2 h3
    have hna := ga_isarr hT (c := ta) (by omega)
    obtain ⟨ho, hvk⟩ := (hH ta n hn).2.1 hna
    obtain ⟨ka, kb⟩ := hKN.2 ta hna (by omega)
    have hcl := ga_clamp ri i0
    have hii : ((i.toNat : Nat) : Int) = i := by omega
    have hltN : i.toNat < (Y.2.2.1.2.2 ta).2.1.toNat := by omega
    have hin : ¬ (Int32.ofInt i < 0 ∨ (arrV (Y.1.2.1 ta) (Y.2.2.1.2.2 ta).2.1.toNat (fun i => ga_cv Y.1 (ga_av (Y.2.2.1.2.2 ta) n i σ))).slots.size ≤ (Int32.ofInt i).toNatClampNeg) := by
      rw [arrV_size]
      exact (ga_in_iff ri).mpr ⟨i0, by omega⟩
    have hrd : (arrV (Y.1.2.1 ta) (Y.2.2.1.2.2 ta).2.1.toNat (fun i => ga_cv Y.1 (ga_av (Y.2.2.1.2.2 ta) n i σ))).slots[(Int32.ofInt i).toNatClampNeg]? = some (ga_cv Y.1 (ga_av (Y.2.2.1.2.2 ta) n i σ)) := by
      rw [hcl, arrV_read _ _ hltN, hii]
    have hkk := kk ls (ga_cv Y.1 (ga_av (Y.2.2.1.2.2 ta) n i σ) :: rv2) hL ⟨ga_vr_mk (by have := hvk i.toNat (by omega); rw [hii] at this; exact this), hS2⟩
    
    have he : (Y.2.2.1.2.2 ta).1 = 3 := by omega
    have ka := ka (by omega)
    rw [he] at ka
    exact W.lald hx hb ho (ka _ _) (fun z => by cases z) hin hrd rfl rfl hd hkk
  case baload =>
    simp only [ga_step] at h
    obtain ⟨hd, rfl, -⟩ := hc
    obtain ⟨i, x, n, ta, rest, rfl, he, h3, i0, i1, h5⟩ := ga_aload_inv h
    refine ga_s_rd hK h5 (fun H ls sv locs k hH hL hS hZ kk => ?_)
    obtain ⟨w1, rv1, rfl, hv1, hS1⟩ := ga_SR_c hS
    obtain ⟨w2, rv2, rfl, hv2, hS2⟩ := ga_SR_c hS1
    obtain ⟨rfl, ri⟩ := ga_vr_i hv1
    obtain ⟨n, rfl, hn, rfl⟩ := ga_ob hv2 h3
    have hna := ga_isarr hT (c := ta) (by omega)
    obtain ⟨ho, hvk⟩ := (hH ta n hn).2.1 hna
    obtain ⟨ka, kb⟩ := hKN.2 ta hna (by omega)
    have hcl := ga_clamp ri i0
    have hii : ((i.toNat : Nat) : Int) = i := by omega
    have hltN : i.toNat < (Y.2.2.1.2.2 ta).2.1.toNat := by omega
    have hin : ¬ (Int32.ofInt i < 0 ∨ (arrV (Y.1.2.1 ta) (Y.2.2.1.2.2 ta).2.1.toNat (fun i => ga_cv Y.1 (ga_av (Y.2.2.1.2.2 ta) n i σ))).slots.size ≤ (Int32.ofInt i).toNatClampNeg) := by
      rw [arrV_size]
      exact (ga_in_iff ri).mpr ⟨i0, by omega⟩
    have hrd : (arrV (Y.1.2.1 ta) (Y.2.2.1.2.2 ta).2.1.toNat (fun i => ga_cv Y.1 (ga_av (Y.2.2.1.2.2 ta) n i σ))).slots[(Int32.ofInt i).toNatClampNeg]? = some (ga_cv Y.1 (ga_av (Y.2.2.1.2.2 ta) n i σ)) := by
      rw [hcl, arrV_read _ _ hltN, hii]
    have hkk := kk ls (ga_cv Y.1 (ga_av (Y.2.2.1.2.2 ta) n i σ) :: rv2) hL ⟨ga_vr_mk (by have := hvk i.toNat (by omega); rw [hii] at this; exact this), hS2⟩
    
    have ka := ka (by omega)
    rcases he with he | he
    · rw [he] at ka
      exact W.bald hx hb ho (ka _ _) (fun z => by cases z) hin hrd rfl rfl hd hkk
    · rw [he] at ka
      exact W.zald hx hb ho (ka _ _) (fun z => by cases z) hin hrd rfl rfl hd hkk
  case aaload =>
    simp only [ga_step] at h
    obtain ⟨hd, rfl, -⟩ := hc
    obtain ⟨i, x, n, ta, rest, rfl, he, h3, i0, i1, h5⟩ := ga_aload_inv h
    refine ga_s_rd hK h5 (fun H ls sv locs k hH hL hS hZ kk => ?_)
    obtain ⟨w1, rv1, rfl, hv1, hS1⟩ := ga_SR_c hS
    obtain ⟨w2, rv2, rfl, hv2, hS2⟩ := ga_SR_c hS1
    obtain ⟨rfl, ri⟩ := ga_vr_i hv1
    obtain ⟨n, rfl, hn, rfl⟩ := ga_ob hv2 h3
    have hna := ga_isarr hT (c := ta) (by omega)
    obtain ⟨ho, hvk⟩ := (hH ta n hn).2.1 hna
    obtain ⟨ka, kb⟩ := hKN.2 ta hna (by omega)
    have hcl := ga_clamp ri i0
    have hii : ((i.toNat : Nat) : Int) = i := by omega
    have hltN : i.toNat < (Y.2.2.1.2.2 ta).2.1.toNat := by omega
    have hin : ¬ (Int32.ofInt i < 0 ∨ (arrV (Y.1.2.1 ta) (Y.2.2.1.2.2 ta).2.1.toNat (fun i => ga_cv Y.1 (ga_av (Y.2.2.1.2.2 ta) n i σ))).slots.size ≤ (Int32.ofInt i).toNatClampNeg) := by
      rw [arrV_size]
      exact (ga_in_iff ri).mpr ⟨i0, by omega⟩
    have hrd : (arrV (Y.1.2.1 ta) (Y.2.2.1.2.2 ta).2.1.toNat (fun i => ga_cv Y.1 (ga_av (Y.2.2.1.2.2 ta) n i σ))).slots[(Int32.ofInt i).toNatClampNeg]? = some (ga_cv Y.1 (ga_av (Y.2.2.1.2.2 ta) n i σ)) := by
      rw [hcl, arrV_read _ _ hltN, hii]
    have hkk := kk ls (ga_cv Y.1 (ga_av (Y.2.2.1.2.2 ta) n i σ) :: rv2) hL ⟨ga_vr_mk (by have := hvk i.toNat (by omega); rw [hii] at this; exact this), hS2⟩
    
    obtain ⟨⟨ty, hty1, hty2⟩, -⟩ := kb (by omega)
    exact W.aald hx hb ho (hty2 _ _) hty1 (fun z => by cases z) hin hrd rfl rfl hd hkk
  case iastore =>
    simp only [ga_step] at h
    obtain ⟨hd, rfl, -⟩ := hc
    obtain ⟨v, i, x, n, w, ta, rest, rfl, he, h3, i0, i1, ht, hw, h5⟩ := ga_astore_inv h
    have hna := ga_isarr hT (c := ta) (by omega)
    refine ga_s_wr hSS hK h5 (ga_al_up (hT.2.2.2.2.2 ta (by omega) ht)) (fun H ls sv locs k hH hL hS kk => ?_)
    obtain ⟨w1, rv1, rfl, hv1, hS1⟩ := ga_SR_c hS
    obtain ⟨w2, rv2, rfl, hv2, hS2⟩ := ga_SR_c hS1
    obtain ⟨w3, rv3, rfl, hv3, hS3⟩ := ga_SR_c hS2
    obtain ⟨rfl, ri⟩ := ga_vr_i hv2
    obtain ⟨n, rfl, hn, rfl⟩ := ga_ob hv3 h3
    have hcn : 0 < Y.2.1 ta := by omega
    obtain ⟨ho, hvk⟩ := (hH ta n hn).2.1 hna
    obtain ⟨ka, kb⟩ := hKN.2 ta hna hcn
    obtain ⟨l1, l2, hro, t1, t2, t3⟩ := hT.2.2.2.1 ta hna hcn
    have hcl := ga_clamp ri i0
    have hii : ((i.toNat : Nat) : Int) = i := by omega
    have hin : ¬ (Int32.ofInt i < 0 ∨ (arrV (Y.1.2.1 ta) (Y.2.2.1.2.2 ta).2.1.toNat (fun i => ga_cv Y.1 (ga_av (Y.2.2.1.2.2 ta) n i σ))).slots.size ≤ (Int32.ofInt i).toNatClampNeg) := by
      rw [arrV_size]
      exact (ga_in_iff ri).mpr ⟨i0, by omega⟩
    have fin : ∀ (H1 : Heap) (vv : Value), ga_cv Y.1 ((Y.2.2.1.2.2 ta).2.2.1, w) = vv → ga_vk Y ((Y.2.2.1.2.2 ta).2.2.1, w) → H1[Y.1.1 ta n]? = some ((arrV (Y.1.2.1 ta) (Y.2.2.1.2.2 ta).2.1.toNat (fun i => ga_cv Y.1 (ga_av (Y.2.2.1.2.2 ta) n i σ))).setSlot (Int32.ofInt i).toNatClampNeg vv) → H1.size = H.size → (∀ q : Nat, q ≠ Y.1.1 ta n → H1[q]? = H[q]?) → ga_W (p, l, ee, R, s, m, args, below, meth, cd, Q, nL, a0) H1 (locs ++ [⟨Y.1.1 ta n, (Int32.ofInt i).toNatClampNeg⟩]) k (pc + 1) ls rv3 := by
      intro H1 vv ev evk e1 z1 q1
      rw [arrV_store, hcl, ← ev] at e1
      have hu := ga_Hd_arr hT hH hn hna ht evk (fun z => by rw [if_pos z] at hw; rw [hw]; exact ga_R8_w8 v) e1 q1
      rw [hii] at hu
      exact kk rv3 H1 (Y.1.1 ta n) _ hS3 hu z1 ⟨ta, n, hro, hn, rfl⟩ q1
    
    have he : (Y.2.2.1.2.2 ta).1 = 0 := by omega
    have t1 := t1 (by omega)
    rw [t1] at hv1 fin
    rw [if_neg (by omega)] at hw
    obtain ⟨rfl, -⟩ := hw
    obtain ⟨rfl, rv⟩ := ga_vr_i hv1
    have ka := ka (by omega)
    rw [he] at ka
    exact W.iast hx hb ho (ka _ _) (fun z => by cases z) hin rfl rfl hd (fun H1 e1 z1 q1 => fin H1 _ rfl rv e1 z1 q1)
  case lastore =>
    simp only [ga_step] at h
    obtain ⟨hd, rfl, -⟩ := hc
    obtain ⟨v, i, x, n, w, ta, rest, rfl, he, h3, i0, i1, ht, hw, h5⟩ := ga_astore_inv h
    have hna := ga_isarr hT (c := ta) (by omega)
    refine ga_s_wr hSS hK h5 (ga_al_up (hT.2.2.2.2.2 ta (by omega) ht)) (fun H ls sv locs k hH hL hS kk => ?_)
    obtain ⟨w1, rv1, rfl, hv1, hS1⟩ := ga_SR_c hS
    obtain ⟨w2, rv2, rfl, hv2, hS2⟩ := ga_SR_c hS1
    obtain ⟨w3, rv3, rfl, hv3, hS3⟩ := ga_SR_c hS2
    obtain ⟨rfl, ri⟩ := ga_vr_i hv2
    obtain ⟨n, rfl, hn, rfl⟩ := ga_ob hv3 h3
    have hcn : 0 < Y.2.1 ta := by omega
    obtain ⟨ho, hvk⟩ := (hH ta n hn).2.1 hna
    obtain ⟨ka, kb⟩ := hKN.2 ta hna hcn
    obtain ⟨l1, l2, hro, t1, t2, t3⟩ := hT.2.2.2.1 ta hna hcn
    have hcl := ga_clamp ri i0
    have hii : ((i.toNat : Nat) : Int) = i := by omega
    have hin : ¬ (Int32.ofInt i < 0 ∨ (arrV (Y.1.2.1 ta) (Y.2.2.1.2.2 ta).2.1.toNat (fun i => ga_cv Y.1 (ga_av (Y.2.2.1.2.2 ta) n i σ))).slots.size ≤ (Int32.ofInt i).toNatClampNeg) := by
      rw [arrV_size]
      exact (ga_in_iff ri).mpr ⟨i0, by omega⟩
    have fin : ∀ (H1 : Heap) (vv : Value), ga_cv Y.1 ((Y.2.2.1.2.2 ta).2.2.1, w) = vv → ga_vk Y ((Y.2.2.1.2.2 ta).2.2.1, w) → H1[Y.1.1 ta n]? = some ((arrV (Y.1.2.1 ta) (Y.2.2.1.2.2 ta).2.1.toNat (fun i => ga_cv Y.1 (ga_av (Y.2.2.1.2.2 ta) n i σ))).setSlot (Int32.ofInt i).toNatClampNeg vv) → H1.size = H.size → (∀ q : Nat, q ≠ Y.1.1 ta n → H1[q]? = H[q]?) → ga_W (p, l, ee, R, s, m, args, below, meth, cd, Q, nL, a0) H1 (locs ++ [⟨Y.1.1 ta n, (Int32.ofInt i).toNatClampNeg⟩]) k (pc + 1) ls rv3 := by
      intro H1 vv ev evk e1 z1 q1
      rw [arrV_store, hcl, ← ev] at e1
      have hu := ga_Hd_arr hT hH hn hna ht evk (fun z => by rw [if_pos z] at hw; rw [hw]; exact ga_R8_w8 v) e1 q1
      rw [hii] at hu
      exact kk rv3 H1 (Y.1.1 ta n) _ hS3 hu z1 ⟨ta, n, hro, hn, rfl⟩ q1
    
    have he : (Y.2.2.1.2.2 ta).1 = 3 := by omega
    have t2 := t2 (by omega)
    rw [t2] at hv1 fin
    rw [if_neg (by omega)] at hw
    obtain ⟨rfl, -⟩ := hw
    obtain ⟨rfl, rv⟩ := ga_vr_l hv1
    have ka := ka (by omega)
    rw [he] at ka
    exact W.last hx hb ho (ka _ _) (fun z => by cases z) hin rfl rfl hd (fun H1 e1 z1 q1 => fin H1 _ rfl rv e1 z1 q1)
  case bastore =>
    simp only [ga_step] at h
    obtain ⟨hd, rfl, -⟩ := hc
    obtain ⟨v, i, x, n, w, ta, rest, rfl, he, h3, i0, i1, ht, hw, h5⟩ := ga_astore_inv h
    have hna := ga_isarr hT (c := ta) (by omega)
    refine ga_s_wr hSS hK h5 (ga_al_up (hT.2.2.2.2.2 ta (by omega) ht)) (fun H ls sv locs k hH hL hS kk => ?_)
    obtain ⟨w1, rv1, rfl, hv1, hS1⟩ := ga_SR_c hS
    obtain ⟨w2, rv2, rfl, hv2, hS2⟩ := ga_SR_c hS1
    obtain ⟨w3, rv3, rfl, hv3, hS3⟩ := ga_SR_c hS2
    obtain ⟨rfl, ri⟩ := ga_vr_i hv2
    obtain ⟨n, rfl, hn, rfl⟩ := ga_ob hv3 h3
    have hcn : 0 < Y.2.1 ta := by omega
    obtain ⟨ho, hvk⟩ := (hH ta n hn).2.1 hna
    obtain ⟨ka, kb⟩ := hKN.2 ta hna hcn
    obtain ⟨l1, l2, hro, t1, t2, t3⟩ := hT.2.2.2.1 ta hna hcn
    have hcl := ga_clamp ri i0
    have hii : ((i.toNat : Nat) : Int) = i := by omega
    have hin : ¬ (Int32.ofInt i < 0 ∨ (arrV (Y.1.2.1 ta) (Y.2.2.1.2.2 ta).2.1.toNat (fun i => ga_cv Y.1 (ga_av (Y.2.2.1.2.2 ta) n i σ))).slots.size ≤ (Int32.ofInt i).toNatClampNeg) := by
      rw [arrV_size]
      exact (ga_in_iff ri).mpr ⟨i0, by omega⟩
    have fin : ∀ (H1 : Heap) (vv : Value), ga_cv Y.1 ((Y.2.2.1.2.2 ta).2.2.1, w) = vv → ga_vk Y ((Y.2.2.1.2.2 ta).2.2.1, w) → H1[Y.1.1 ta n]? = some ((arrV (Y.1.2.1 ta) (Y.2.2.1.2.2 ta).2.1.toNat (fun i => ga_cv Y.1 (ga_av (Y.2.2.1.2.2 ta) n i σ))).setSlot (Int32.ofInt i).toNatClampNeg vv) → H1.size = H.size → (∀ q : Nat, q ≠ Y.1.1 ta n → H1[q]? = H[q]?) → ga_W (p, l, ee, R, s, m, args, below, meth, cd, Q, nL, a0) H1 (locs ++ [⟨Y.1.1 ta n, (Int32.ofInt i).toNatClampNeg⟩]) k (pc + 1) ls rv3 := by
      intro H1 vv ev evk e1 z1 q1
      rw [arrV_store, hcl, ← ev] at e1
      have hu := ga_Hd_arr hT hH hn hna ht evk (fun z => by rw [if_pos z] at hw; rw [hw]; exact ga_R8_w8 v) e1 q1
      rw [hii] at hu
      exact kk rv3 H1 (Y.1.1 ta n) _ hS3 hu z1 ⟨ta, n, hro, hn, rfl⟩ q1
    
    have t1 := t1 (by omega)
    rw [t1] at hv1 fin
    obtain ⟨rfl, rv⟩ := ga_vr_i hv1
    have ka := ka (by omega)
    rcases he with he | he
    · rw [if_pos he] at hw
      subst hw
      rw [he] at ka
      exact W.bast hx hb ho (ka _ _) (fun z => by cases z) hin rfl rfl hd (fun H1 e1 z1 q1 => fin H1 _ (by show Value.int (Int32.ofInt (w8 v)) = Value.int _; rw [ga_i2b]) (show ga_R32 (w8 v) from by unfold ga_R32 w8; omega) e1 z1 q1)
    · rw [if_neg (by omega)] at hw
      obtain ⟨rfl, hw01⟩ := hw
      rw [he] at ka
      refine W.zast hx hb ho (ka _ _) (fun z => by cases z) hin rfl rfl hd (fun H1 e1 z1 q1 => fin H1 _ ?_ rv e1 z1 q1)
      rcases hw01 he with rfl | rfl
      · rfl
      · rfl
  case aastore =>
    simp only [ga_step] at h
    obtain ⟨hd, rfl, -⟩ := hc
    obtain ⟨v, i, x, n, w, ta, rest, rfl, he, h3, i0, i1, ht, hw, h5⟩ := ga_astore_inv h
    have hna := ga_isarr hT (c := ta) (by omega)
    refine ga_s_wr hSS hK h5 (ga_al_up (hT.2.2.2.2.2 ta (by omega) ht)) (fun H ls sv locs k hH hL hS kk => ?_)
    obtain ⟨w1, rv1, rfl, hv1, hS1⟩ := ga_SR_c hS
    obtain ⟨w2, rv2, rfl, hv2, hS2⟩ := ga_SR_c hS1
    obtain ⟨w3, rv3, rfl, hv3, hS3⟩ := ga_SR_c hS2
    obtain ⟨rfl, ri⟩ := ga_vr_i hv2
    obtain ⟨n, rfl, hn, rfl⟩ := ga_ob hv3 h3
    have hcn : 0 < Y.2.1 ta := by omega
    obtain ⟨ho, hvk⟩ := (hH ta n hn).2.1 hna
    obtain ⟨ka, kb⟩ := hKN.2 ta hna hcn
    obtain ⟨l1, l2, hro, t1, t2, t3⟩ := hT.2.2.2.1 ta hna hcn
    have hcl := ga_clamp ri i0
    have hii : ((i.toNat : Nat) : Int) = i := by omega
    have hin : ¬ (Int32.ofInt i < 0 ∨ (arrV (Y.1.2.1 ta) (Y.2.2.1.2.2 ta).2.1.toNat (fun i => ga_cv Y.1 (ga_av (Y.2.2.1.2.2 ta) n i σ))).slots.size ≤ (Int32.ofInt i).toNatClampNeg) := by
      rw [arrV_size]
      exact (ga_in_iff ri).mpr ⟨i0, by omega⟩
    have fin : ∀ (H1 : Heap) (vv : Value), ga_cv Y.1 ((Y.2.2.1.2.2 ta).2.2.1, w) = vv → ga_vk Y ((Y.2.2.1.2.2 ta).2.2.1, w) → H1[Y.1.1 ta n]? = some ((arrV (Y.1.2.1 ta) (Y.2.2.1.2.2 ta).2.1.toNat (fun i => ga_cv Y.1 (ga_av (Y.2.2.1.2.2 ta) n i σ))).setSlot (Int32.ofInt i).toNatClampNeg vv) → H1.size = H.size → (∀ q : Nat, q ≠ Y.1.1 ta n → H1[q]? = H[q]?) → ga_W (p, l, ee, R, s, m, args, below, meth, cd, Q, nL, a0) H1 (locs ++ [⟨Y.1.1 ta n, (Int32.ofInt i).toNatClampNeg⟩]) k (pc + 1) ls rv3 := by
      intro H1 vv ev evk e1 z1 q1
      rw [arrV_store, hcl, ← ev] at e1
      have hu := ga_Hd_arr hT hH hn hna ht evk (fun z => by rw [if_pos z] at hw; rw [hw]; exact ga_R8_w8 v) e1 q1
      rw [hii] at hu
      exact kk rv3 H1 (Y.1.1 ta n) _ hS3 hu z1 ⟨ta, n, hro, hn, rfl⟩ q1
    
    have he : (Y.2.2.1.2.2 ta).1 = 4 := by omega
    obtain ⟨g3, -⟩ := t3 he
    obtain ⟨q, hq1, hq2, hq3⟩ := (kb he).2 ht
    rw [if_neg (by omega)] at hw
    obtain ⟨rfl, -⟩ := hw
    obtain ⟨cq, hcq⟩ : ∃ cq, (Y.2.2.1.2.2 ta).2.2.1 = cq + 3 := ⟨(Y.2.2.1.2.2 ta).2.2.1 - 3, by omega⟩
    rw [hcq] at hv1 fin hq1
    rw [show cq + 3 - 3 = cq by omega] at hq1
    obtain ⟨e1, v1, v2, v3⟩ := ga_vr_o hv1
    by_cases hneg : w < 0
    · rw [if_pos hneg] at e1
      subst e1
      exact va_WaastN (C := q.1) hx hb ho (hq2 _ _) (fun z => by cases z) hin rfl rfl hd (fun H1 e1 z1 q1 => fin H1 _ (by unfold ga_cv; dsimp only; rw [if_pos hneg]) ⟨v1, v2, v3⟩ e1 z1 q1)
    · rw [if_neg hneg] at e1
      subst e1
      obtain ⟨ho2, -⟩ := (hH cq w.toNat (by omega)).1 q hq1
      obtain ⟨cellV, g1, g2, g3', -⟩ := ho2
      have hcls := (hKN.1.1 cq q hq1).2
      obtain ⟨kA, comp, k1, k2, k3, -⟩ := hq3
      have hcomp : comp = Y.1.2.1 cq := Option.some.inj (k3.symm.trans hcls.1)
      subst hcomp
      obtain ⟨kC, hkC, -⟩ := hcls.2
      refine W.aast hx hb ho (fun q h => by cases h) (fun h => by cases h) k1 k2 rfl hkC ⟨fun z => hin (Or.inl z), Nat.not_le.mp fun z => hin (Or.inr z)⟩ g1 (fun q h => by rw [h] at g3'; cases g3') (by rw [g2]; exact hkC) (by rw [g2]; exact va_assign hcls) rfl rfl hd fun H1 e1 z1 q1 => ?_
      exact fin H1 _ (by unfold ga_cv; dsimp only; rw [if_neg hneg]) ⟨v1, v2, v3⟩ e1 z1 q1
  case invokestatic idx =>
    simp only [ga_step] at h
    obtain ⟨hd, rfl, hl⟩ := hc
    exact ga_s_inv (X := (p, l, ee, R, s, m, args, below, meth, cd, Q, nL, a0)) (inst := false) (idx := idx) hSS hroom hK (hC false idx a b c d hl) h hd
  case invokevirtual idx =>
    simp only [ga_step] at h
    obtain ⟨hd, rfl, hl⟩ := hc
    exact ga_s_inv (X := (p, l, ee, R, s, m, args, below, meth, cd, Q, nL, a0)) (inst := true) (idx := idx) hSS hroom hK (hC true idx a b c d hl) h hd
  case ireturn =>
    simp only [ga_step] at h
    obtain ⟨hd, rfl, -⟩ := hc
    split at h
    · rename_i t x
      obtain ⟨h1, h2⟩ := ga_cond_inv h
      have h1 := ga_beq h1
      subst h1
      have hz : ((rk = 0) ∨ (rk = 2 ∧ (x = 0 ∨ x = 1))) ∧ Rt (x, σ) = some r := by
        cases z1 : Nat.beq rk 0 with
        | true => rw [z1] at h2; exact ⟨Or.inl (ga_beq z1), h2⟩
        | false =>
          rw [z1] at h2
          obtain ⟨g1, g2⟩ := ga_cond_inv h2
          obtain ⟨g3, g4⟩ := ga_01_inv g2
          exact ⟨Or.inr ⟨ga_beq g1, g3⟩, g4⟩
      obtain ⟨hz1, hz2⟩ := hz
      have hr := hR _ hz2
      subst hr
      refine ⟨Nat.le_refl _, fun H ls sv locs hH hL hS hZ ha => ?_⟩
      obtain ⟨w1, rv1, rfl, hv1, hS1⟩ := ga_SR_c hS
      have := ga_SR_n hS1
      subst this
      obtain ⟨rfl, rx⟩ := ga_vr_i hv1
      subst hQ
      rcases hz1 with rfl | ⟨rfl, hx01⟩
      · exact W.iret (Qc := ga_Qc Y 0 (x, σ)) hx hb (hr0 rfl) (fun t ht hW => ⟨⟨_, rfl, by rw [if_neg (by omega)]; exact ⟨_, rfl, ga_vr_mi rx⟩⟩, by rw [ht]; exact hH, by rw [ht]; exact ga_xS_keep hZ⟩) hZ.2.2 hd hlocks
      · refine W.zret (Qc := ga_Qc Y 2 (x, σ)) hx hb (hr2 rfl) ?_ (fun t ht hW => ⟨⟨_, rfl, by rw [if_neg (by omega)]; exact ⟨_, rfl, ga_vr_mi rx⟩⟩, by rw [ht]; exact hH, by rw [ht]; exact ga_xS_keep hZ⟩) hZ.2.2 hd hlocks
        rcases hx01 with rfl | rfl
        · rfl
        · rfl
    · cases h
  case lreturn =>
    simp only [ga_step] at h
    obtain ⟨hd, rfl, -⟩ := hc
    split at h
    · rename_i t x
      obtain ⟨h1, h2⟩ := ga_cond_inv h
      obtain ⟨g1, g2⟩ := Bool.and_eq_true_iff.mp h1
      have g1 := ga_beq g1
      have g2 := ga_beq g2
      subst g1; subst g2
      have hr := hR _ h2
      subst hr
      refine ⟨Nat.le_refl _, fun H ls sv locs hH hL hS hZ ha => ?_⟩
      obtain ⟨w1, rv1, rfl, hv1, hS1⟩ := ga_SR_c hS
      have := ga_SR_n hS1
      subst this
      obtain ⟨rfl, rx⟩ := ga_vr_l hv1
      subst hQ
      exact W.lret (Qc := ga_Qc Y 1 (x, σ)) hx hb (hr1 rfl) (fun t ht hW => ⟨⟨_, rfl, by rw [if_neg (by omega)]; exact ⟨_, rfl, ga_vr_ml rx⟩⟩, by rw [ht]; exact hH, by rw [ht]; exact ga_xS_keep hZ⟩) hZ.2.2 hd hlocks
    · cases h
  case areturn =>
    simp only [ga_step] at h
    obtain ⟨hd, rfl, -⟩ := hc
    split at h
    · rename_i t x
      obtain ⟨h1, h2⟩ := ga_cond_inv h
      obtain ⟨g1, g2⟩ := Bool.and_eq_true_iff.mp h1
      have g1 := ga_blt g1
      have g2 := ga_beq g2
      subst g2
      have hr := hR _ h2
      subst hr
      refine ⟨Nat.le_refl _, fun H ls sv locs hH hL hS hZ ha => ?_⟩
      obtain ⟨w1, rv1, rfl, hv1, hS1⟩ := ga_SR_c hS
      have := ga_SR_n hS1
      subst this
      subst hQ
      obtain ⟨n0, hn0⟩ := hr5 (by omega)
      refine W.aret (Qc := ga_Qc Y (t + 3) (x, σ)) hx hb hn0 (Or.inl ⟨n0, rfl⟩) ?_ (fun t' ht hW => ⟨⟨_, rfl, ?_⟩, by rw [ht]; exact hH, by rw [ht]; exact ga_xS_keep hZ⟩) hZ.2.2 hd hlocks
      · rcases ga_vr_ref hv1 g1 with ⟨a, rfl⟩ | rfl
        · exact Or.inr ⟨a, rfl⟩
        · exact Or.inl rfl
      · rw [if_neg (by omega)]
        refine ⟨_, rfl, ?_⟩
        rw [ht, show ga_rtag (t + 3) = t by unfold ga_rtag; rw [if_neg (by omega)]; omega]
        exact hv1
    · cases h
  case return_ =>
    simp only [ga_step] at h
    obtain ⟨hd, rfl, -⟩ := hc
    split at h
    · obtain ⟨h1, h2⟩ := ga_cond_inv h
      have h1 := ga_beq h1
      subst h1
      have hr := hR _ h2
      subst hr
      refine ⟨Nat.le_refl _, fun H ls sv locs hH hL hS hZ ha => ?_⟩
      have := ga_SR_n hS
      subst this
      subst hQ
      exact W.vret (Qc := ga_Qc Y 4 (0, σ)) hx hb (hr4 rfl) (fun t ht hW => ⟨⟨_, rfl, by rw [if_pos rfl]⟩, by rw [ht]; exact hH, by rw [ht]; exact ga_xS_keep hZ⟩) hZ.2.2 hd hlocks
    · cases h
  all_goals (simp [ga_step] at h)

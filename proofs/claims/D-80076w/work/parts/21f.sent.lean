/-! tokens one behind the other -/
def sP (B : Int → Int) (x : Bool) (n a : Int) : Nat → Int
  | 0 => bl B x n a
  | k + 1 => bl B x n (tkN B x n (sP B x n a k))
def sK (B : Int → Int) (x : Bool) (n a : Int) (k : Nat) : Int := tkK B x n (sP B x n a k)
def sE (B : Int → Int) (x : Bool) (n a : Int) (k : Nat) : Int := tkN B x n (sP B x n a k)
theorem sP_r {B : Int → Int} {x : Bool} {n a : Int} (ha : 0 ≤ a ∧ a ≤ n) : ∀ k, 0 ≤ sP B x n a k ∧ sP B x n a k ≤ n ∧ sP B x n a k ≤ sE B x n a k ∧ sE B x n a k ≤ n := by
  intro k
  induction k with
  | zero =>
    have b := bl_all (B := B) (x := x) (n := n) a
    have t := tkN_r (B := B) (x := x) (n := n) (p := bl B x n a)
    exact ⟨by unfold sP; omega, b.2.1 ha.2, t.1, t.2 (b.2.1 ha.2)⟩
  | succ k ih =>
    have b := bl_all (B := B) (x := x) (n := n) (tkN B x n (sP B x n a k))
    have t := tkN_r (B := B) (x := x) (n := n) (p := sP B x n a (k + 1))
    have h1 : sE B x n a k = tkN B x n (sP B x n a k) := rfl
    have h2 : sP B x n a (k + 1) = bl B x n (tkN B x n (sP B x n a k)) := rfl
    refine ⟨by omega, by rw [h2]; exact b.2.1 (by omega), t.1, t.2 (by rw [h2]; exact b.2.1 (by omega))⟩
theorem sP_gt {B : Int → Int} {x : Bool} {n a : Int} {k : Nat} (h7 : sK B x n a k ≠ 7) (h8 : sK B x n a k ≠ 8) : sP B x n a k < n ∧ sP B x n a k < sP B x n a (k + 1) := by
  have t := tkN_gt h7 h8
  have b := (bl_all (B := B) (x := x) (n := n) (tkN B x n (sP B x n a k))).1
  exact ⟨t.1, by show _ < bl B x n (tkN B x n (sP B x n a k)); omega⟩
theorem sP_k {B : Int → Int} {x : Bool} {n a : Int} (ha : 0 ≤ a ∧ a ≤ n) : ∀ k : Nat, (∀ j, j < k → sK B x n a j ≠ 7 ∧ sK B x n a j ≠ 8) → (k : Int) ≤ sP B x n a k := by
  intro k
  induction k with
  | zero => intro _; have := (sP_r (x := x) ha (B := B) 0).1; simpa using this
  | succ k ih =>
    intro h
    have i := ih (fun j hj => h j (by omega))
    have g := sP_gt (h k (by omega)).1 (h k (by omega)).2
    push_cast
    omega
/-- there is a stop -/
theorem sP_stop {B : Int → Int} {x : Bool} {n a : Int} (ha : 0 ≤ a ∧ a ≤ n) : ∃ k : Nat, (k : Int) ≤ n ∧ (sK B x n a k = 7 ∨ sK B x n a k = 8) := by
  refine Classical.byContradiction fun hn => ?_
  have all : ∀ k : Nat, (k : Int) ≤ n → sK B x n a k ≠ 7 ∧ sK B x n a k ≠ 8 := fun k hk => ⟨fun e => hn ⟨k, hk, Or.inl e⟩, fun e => hn ⟨k, hk, Or.inr e⟩⟩
  have h1 := sP_k (x := x) ha (B := B) (n.toNat) (fun j hj => all j (by omega))
  have h2 := sP_gt (all n.toNat (by omega)).1 (all n.toNat (by omega)).2
  omega
/-- the store behind a token that is kept -/
def st1 (σ : ga_S) (v : Int) : ga_S :=
  let p := bl (σ fT_bytes v) (inT σ v) (σ fT_size v 0) (σ fT_at v 0)
  let k := tkK (σ fT_bytes v) (inT σ v) (σ fT_size v 0) p
  let e := tkN (σ fT_bytes v) (inT σ v) (σ fT_size v 0) p
  ga_up (ga_up (NX σ v e p (e - p) (if k = 7 then p else σ fT_wrong v 0)) fT_kinds v (σ fT_count v 0) k) fT_count v 0 (σ fT_count v 0 + 1)
def stN (σ : ga_S) (v : Int) : Nat → ga_S
  | 0 => σ
  | k + 1 => st1 (stN σ v k) v
def tkL : List Nat := [fT_places, fT_at, fT_lengths, fT_wrong, fT_kinds, fT_count]
theorem NX_fr (σ : ga_S) (v e p l w : Int) : fr tkL σ (NX σ v e p l w) := by
  unfold NX
  exact fr_trans (fr_trans (fr_trans (fr_u (by decide)) (fr_u (by decide))) (fr_u (by decide))) (fr_u (by decide))
theorem NX_o (σ : ga_S) (v e p l w : Int) (F : Nat) (v' : Int) (h : v' ≠ v) : NX σ v e p l w F v' = σ F v' := by
  funext i
  unfold NX ga_up
  rw [if_neg (fun z => h z.2.1), if_neg (fun z => h z.2.1), if_neg (fun z => h z.2.1), if_neg (fun z => h z.2.1)]
theorem st1_fr (σ : ga_S) (v : Int) : fr tkL σ (st1 σ v) := by
  unfold st1
  exact fr_trans (fr_trans (NX_fr _ _ _ _ _ _) (fr_u (by decide))) (fr_u (by decide))
theorem st1_o (σ : ga_S) (v : Int) (F : Nat) (v' : Int) (h : v' ≠ v) : st1 σ v F v' = σ F v' := by
  unfold st1
  rw [show ∀ (ρ : ga_S) (c k : Int), ga_up (ga_up ρ fT_kinds v c k) fT_count v 0 (c + 1) F v' = ρ F v' from fun ρ c k => by
    funext i
    unfold ga_up
    rw [if_neg (fun z => h z.2.1), if_neg (fun z => h z.2.1)]]
  exact NX_o σ v _ _ _ _ F v' h
theorem stN_fr (σ : ga_S) (v : Int) : ∀ k, fr tkL σ (stN σ v k) := by
  intro k
  induction k with
  | zero => exact fr_refl _ _
  | succ k ih => exact fr_trans ih (st1_fr _ v)
theorem stN_o (σ : ga_S) (v : Int) (F : Nat) (v' : Int) (h : v' ≠ v) : ∀ k, stN σ v k F v' = σ F v' := by
  intro k
  induction k with
  | zero => rfl
  | succ k ih => exact (st1_o _ v F v' h).trans ih
section
variable (σ : ga_S) (v : Int)
abbrev vP (k : Nat) : Int := sP (σ fT_bytes v) (inT σ v) (σ fT_size v 0) (σ fT_at v 0) k
abbrev vK (k : Nat) : Int := sK (σ fT_bytes v) (inT σ v) (σ fT_size v 0) (σ fT_at v 0) k
abbrev vE (k : Nat) : Int := sE (σ fT_bytes v) (inT σ v) (σ fT_size v 0) (σ fT_at v 0) k
end
theorem st1_at (σ : ga_S) (v : Int) : (st1 σ v) fT_count v 0 = σ fT_count v 0 + 1 ∧ (st1 σ v) fT_at v 0 = vE σ v 0 ∧ (∀ i, (st1 σ v) fT_kinds v i = if i = σ fT_count v 0 then vK σ v 0 else σ fT_kinds v i) ∧ (∀ i, (st1 σ v) fT_places v i = if i = σ fT_count v 0 then vP σ v 0 else σ fT_places v i) ∧ (∀ i, (st1 σ v) fT_lengths v i = if i = σ fT_count v 0 then vE σ v 0 - vP σ v 0 else σ fT_lengths v i) ∧ (st1 σ v) fT_wrong v 0 = (if vK σ v 0 = 7 then vP σ v 0 else σ fT_wrong v 0) := by
  unfold st1 NX
  refine ⟨up_eq .., ?_, fun i => ?_, fun i => ?_, fun i => ?_, ?_⟩
  · rw [up_F (by decide), up_F (by decide), up_F (by decide), up_F (by decide), up_eq]; rfl
  · rw [up_F (by decide), up_at, up_F (by decide), up_F (by decide), up_F (by decide), up_F (by decide)]; rfl
  · rw [up_F (by decide), up_F (by decide), up_F (by decide), up_F (by decide), up_F (by decide), up_at]; rfl
  · rw [up_F (by decide), up_F (by decide), up_F (by decide), up_at, up_F (by decide), up_F (by decide)]; rfl
  · rw [up_F (by decide), up_F (by decide), up_eq]; rfl
theorem stN_at (σ : ga_S) (v : Int) (h0 : σ fT_count v 0 = 0) : ∀ k : Nat, (stN σ v k) fT_count v 0 = k ∧ bl (σ fT_bytes v) (inT σ v) (σ fT_size v 0) ((stN σ v k) fT_at v 0) = vP σ v k ∧ (0 < k → (stN σ v k) fT_at v 0 = vE σ v (k - 1)) ∧ (∀ j : Nat, j < k → (stN σ v k) fT_kinds v j = vK σ v j ∧ (stN σ v k) fT_places v j = vP σ v j ∧ (stN σ v k) fT_lengths v j = vE σ v j - vP σ v j) := by
  intro k
  induction k with
  | zero => exact ⟨h0, rfl, fun h => absurd h (by omega), fun j h => absurd h (by omega)⟩
  | succ k ih =>
    have f := stN_fr σ v k
    have a := st1_at (stN σ v k) v
    have eb : (stN σ v k) fT_bytes = σ fT_bytes := f _ (by decide)
    have es : (stN σ v k) fT_size = σ fT_size := f _ (by decide)
    have ei : inT (stN σ v k) v = inT σ v := by unfold inT; rw [f fT_inText (by decide)]
    have eP : vP (stN σ v k) v 0 = vP σ v k := by
      show bl _ _ _ _ = _
      rw [eb, es, ei]; exact ih.2.1
    have eK : vK (stN σ v k) v 0 = vK σ v k := by
      show tkK _ _ _ (vP (stN σ v k) v 0) = tkK _ _ _ (vP σ v k)
      rw [eP, eb, es, ei]
    have eE : vE (stN σ v k) v 0 = vE σ v k := by
      show tkN _ _ _ (vP (stN σ v k) v 0) = tkN _ _ _ (vP σ v k)
      rw [eP, eb, es, ei]
    rw [eE, ih.1, eK, eP] at a
    refine ⟨?_, ?_, fun _ => a.2.1, fun j hj => ?_⟩
    · show (st1 (stN σ v k) v) fT_count v 0 = _
      rw [a.1]; push_cast; rfl
    · show bl _ _ _ ((st1 (stN σ v k) v) fT_at v 0) = _
      rw [a.2.1]; rfl
    · show (st1 (stN σ v k) v) fT_kinds v j = _ ∧ (st1 (stN σ v k) v) fT_places v j = _ ∧ (st1 (stN σ v k) v) fT_lengths v j = _
      rw [a.2.2.1, a.2.2.2.1, a.2.2.2.2.1]
      by_cases c : j = k
      · rw [c, if_pos rfl, if_pos rfl, if_pos rfl]; exact ⟨rfl, rfl, rfl⟩
      · have c' : ¬ ((j : Int) = (k : Int)) := by omega
        rw [if_neg c', if_neg c', if_neg c']
        exact ih.2.2.2 j (by omega)
theorem stN_wrong (σ : ga_S) (v : Int) (h0 : σ fT_count v 0 = 0) : ∀ k : Nat, (∀ j, j < k → vK σ v j ≠ 7) → (stN σ v k) fT_wrong v 0 = σ fT_wrong v 0 ∧ (stN σ v (k + 1)) fT_wrong v 0 = if vK σ v k = 7 then vP σ v k else σ fT_wrong v 0 := by
  intro k
  induction k with
  | zero => intro _; exact ⟨rfl, (st1_at σ v).2.2.2.2.2⟩
  | succ k ih =>
    intro h
    have i := ih (fun j hj => h j (by omega))
    have e1 : (stN σ v (k + 1)) fT_wrong v 0 = σ fT_wrong v 0 := by rw [i.2, if_neg (h k (by omega))]
    refine ⟨e1, ?_⟩
    have f := stN_fr σ v (k + 1)
    have a := (st1_at (stN σ v (k + 1)) v).2.2.2.2.2
    have s := (stN_at σ v h0 (k + 1)).2.1
    have eP : vP (stN σ v (k + 1)) v 0 = vP σ v (k + 1) := by
      show bl _ _ _ _ = _
      rw [f fT_bytes (by decide), f fT_size (by decide), show inT (stN σ v (k + 1)) v = inT σ v by unfold inT; rw [f fT_inText (by decide)]]
      exact s
    have eK : vK (stN σ v (k + 1)) v 0 = vK σ v (k + 1) := by
      show tkK _ _ _ (vP (stN σ v (k + 1)) v 0) = tkK _ _ _ (vP σ v (k + 1))
      rw [eP, f fT_bytes (by decide), f fT_size (by decide), show inT (stN σ v (k + 1)) v = inT σ v by unfold inT; rw [f fT_inText (by decide)]]
    rw [eP, eK, e1] at a
    exact a
/-- what tokens need -/
def tOk (σ : ga_S) (v : Int) : Prop := 0 ≤ v ∧ σ fT_size v 0 ≤ 5000 ∧ rAll σ v ∧ 0 ≤ σ fT_at v 0 ∧ σ fT_at v 0 ≤ σ fT_size v 0
theorem s_t_next' {σ : ga_S} {d : Nat} (hd : 3 ≤ d) {v : Int} (hT : tOk σ v) (hc : 0 ≤ σ fT_count v 0 ∧ σ fT_count v 0 < 5002) : ∃ ρ, c_t_next d σ v = some (vK σ v 0, ρ) ∧ ρ fT_count v 0 = σ fT_count v 0 ∧ ga_up (ga_up ρ fT_kinds v (σ fT_count v 0) (vK σ v 0)) fT_count v 0 (σ fT_count v 0 + 1) = st1 σ v ∧ fr tkL σ ρ := by
  refine ⟨_, s_t_next hd hT.1 hT.2.1 hT.2.2.1 hc hT.2.2.2 rfl, ?_, rfl, NX_fr _ _ _ _ _ _⟩
  unfold NX
  rw [up_F (by decide), up_F (by decide), up_F (by decide), up_F (by decide)]
theorem tOk_N {σ : ga_S} {v : Int} (hT : tOk σ v) (h0 : σ fT_count v 0 = 0) (k : Nat) : tOk (stN σ v k) v := by
  have f := stN_fr σ v k
  have s := stN_at σ v h0 k
  have r := sP_r (B := σ fT_bytes v) (x := inT σ v) hT.2.2.2
  refine ⟨hT.1, by rw [f fT_size (by decide)]; exact hT.2.1, fun j h1 h2 => by rw [f fT_all (by decide)]; exact hT.2.2.1 j h1 h2, ?_⟩
  rw [f fT_size (by decide)]
  by_cases c : 0 < k
  · rw [s.2.2.1 c]
    have := r (k - 1)
    exact ⟨by show 0 ≤ sE _ _ _ _ _; omega, this.2.2.2⟩
  · have e : k = 0 := by omega
    rw [e]; exact hT.2.2.2
/-- the loop of a sentence behind its first token, or when that is no text -/
theorem s_t_sentence_10 {σ : ga_S} {d : Nat} (hd : 3 ≤ d) {v : Int} (hT : tOk σ v) (h0 : σ fT_count v 0 = 0) (N : Nat) (hN : vK σ v N = 3 ∨ vK σ v N = 7 ∨ vK σ v N = 8) (hb : ∀ j, j < N → vK σ v j ≠ 3 ∧ vK σ v j ≠ 7 ∧ vK σ v j ≠ 8) (h2 : vK σ v 0 ≠ 2) : ∀ (m k : Nat), k + m = N → t_sentence_10 d (stN σ v k) v = some (0, stN σ v (N + 1)) := by
  have eK : ∀ k, vK (stN σ v k) v 0 = vK σ v k := by
    intro k
    have f := stN_fr σ v k
    have s := (stN_at σ v h0 k).2.1
    show tkK _ _ _ (bl _ _ _ _) = tkK _ _ _ (vP σ v k)
    rw [f fT_bytes (by decide), f fT_size (by decide), show inT (stN σ v k) v = inT σ v by unfold inT; rw [f fT_inText (by decide)], s]
  intro m
  induction m with
  | zero =>
    intro k hk
    have ek : k = N := by omega
    subst ek
    have s := stN_at σ v h0 k
    have hk5 := sP_k (B := σ fT_bytes v) (x := inT σ v) hT.2.2.2 k (fun j hj => (hb j hj).2)
    have hr := (sP_r (B := σ fT_bytes v) (x := inT σ v) hT.2.2.2 k).2.1
    have h5 := hT.2.1
    obtain ⟨ρ, e1, e2, e3, e4⟩ := s_t_next' hd (tOk_N hT h0 k) (by rw [s.1]; omega)
    rw [e_t_sentence_10, nn_ok _ hT.1, e1]; simp only [Option.bind_some]
    simp only [nn_ok _ hT.1]
    rw [e2, s.1, ck_ok _ (by omega), w32_ok (by omega), eK]
    rw [s.1, eK] at e3
    rw [up_eq, e3]
    have fin : t_sentence_55 d (st1 (stN σ v k) v) v (vK σ v k) = some (0, stN σ v (k + 1)) := by
      rw [e_t_sentence_55]
      rcases hN with h | h | h <;> rw [h] <;> rfl
    by_cases c : vK σ v k = 2
    · omega
    · rw [if_neg c, fin]
  | succ m ih =>
    intro k hk
    have s := stN_at σ v h0 k
    have hk5 := sP_k (B := σ fT_bytes v) (x := inT σ v) hT.2.2.2 k (fun j hj => (hb j (by omega)).2)
    have hr := (sP_r (B := σ fT_bytes v) (x := inT σ v) hT.2.2.2 k).2.1
    have h5 := hT.2.1
    obtain ⟨ρ, e1, e2, e3, e4⟩ := s_t_next' hd (tOk_N hT h0 k) (by rw [s.1]; omega)
    rw [e_t_sentence_10, nn_ok _ hT.1, e1]; simp only [Option.bind_some]
    simp only [nn_ok _ hT.1]
    rw [e2, s.1, ck_ok _ (by omega), w32_ok (by omega), eK]
    rw [s.1, eK] at e3
    rw [up_eq, e3]
    have b := hb k (by omega)
    have fin : t_sentence_55 d (st1 (stN σ v k) v) v (vK σ v k) = some (0, stN σ v (N + 1)) := by
      rw [e_t_sentence_55, if_neg b.1, if_neg b.2.2, if_neg b.2.1]
      exact ih (k + 1) (by omega)
    by_cases c : vK σ v k = 2
    · rw [if_pos c]
      have k0 : k ≠ 0 := by intro z; rw [z] at c; exact h2 c
      rw [if_neg (by omega), fin]
    · rw [if_neg c, fin]

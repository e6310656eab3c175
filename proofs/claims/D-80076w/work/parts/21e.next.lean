/-! one token -/
def wEnd (B : Int → Int) (n p : Int) : Int := sk (fun q => isLt (B q)) n p
def dEnd (B : Int → Int) (n p : Int) : Int := sk (fun q => isDg (B q)) n p
def qS (B : Int → Int) (n p : Int) : Int := sk (fun q => decide (¬ B q = 34 ∧ 32 ≤ B q ∧ B q ≤ 126)) n (p + 1)
def qOk (B : Int → Int) (n p : Int) : Bool := decide (qS B n p < n ∧ B (qS B n p) = 34 ∧ qS B n p - p - 1 ≤ 120)
def tkR (B : Int → Int) (n p : Int) : Int :=
  if isDg (B p) = true then (if 6 < dEnd B n p - p then 7 else 1)
  else if B p = 34 then (if qOk B n p = true then 2 else 7)
  else if B p = 46 then 3 else if B p = 44 then 4 else if B p = 59 then 5 else if B p = 58 then 6 else 7
theorem tkR_r {B : Int → Int} {n p : Int} : 1 ≤ tkR B n p ∧ tkR B n p ≤ 7 := by
  unfold tkR
  repeat' split
  all_goals omega
/-- the sort of the token at a place -/
def tkK (B : Int → Int) (x : Bool) (n p : Int) : Int :=
  if n ≤ p then 8 else if B p = 91 ∧ x = false then 7 else if isLt (B p) = true then (if 12 < wEnd B n p - p then 7 else wKey (wdB B p (wEnd B n p - p)))
  else tkR B n p
/-- where it ends -/
def tkN (B : Int → Int) (x : Bool) (n p : Int) : Int :=
  if n ≤ p then p else if B p = 91 ∧ x = false then p else if isLt (B p) = true then wEnd B n p
  else if isDg (B p) = true then dEnd B n p
  else if B p = 34 then (if qOk B n p = true then qS B n p + 1 else p)
  else p + 1
theorem tkN_r {B : Int → Int} {x : Bool} {n p : Int} : p ≤ tkN B x n p ∧ (p ≤ n → tkN B x n p ≤ n) := by
  unfold tkN
  have a := sk_all (f := fun q => isLt (B q)) (n := n) p
  have b := sk_all (f := fun q => isDg (B q)) (n := n) p
  have c := sk_all (f := fun q => decide (¬ B q = 34 ∧ 32 ≤ B q ∧ B q ≤ 126)) (n := n) (p + 1)
  by_cases h : n ≤ p
  · rw [if_pos h]; omega
  · rw [if_neg h]
    split
    · omega
    · split
      · exact ⟨a.1, a.2.1⟩
      · split
        · exact ⟨b.1, b.2.1⟩
        · split
          · split
            · rename_i hq
              have hq := of_decide_eq_true hq
              unfold qS at *
              omega
            · omega
          · omega
/-- what isn't wrong, nor the end, goes on -/
theorem tkN_gt {B : Int → Int} {x : Bool} {n p : Int} (h7 : tkK B x n p ≠ 7) (h8 : tkK B x n p ≠ 8) : p < n ∧ p < tkN B x n p := by
  unfold tkK tkR at h7 h8
  unfold tkN
  by_cases h : n ≤ p
  · rw [if_pos h] at h8; omega
  · rw [if_neg h] at h7 h8 ⊢
    refine ⟨by omega, ?_⟩
    by_cases c1 : B p = 91 ∧ x = false
    · rw [if_pos c1] at h7; omega
    · rw [if_neg c1] at h7 ⊢
      by_cases c2 : isLt (B p) = true
      · rw [if_pos c2]
        unfold wEnd
        rw [sk_s (f := fun q => isLt (B q)) (by omega) c2]
        have := (sk_all (f := fun q => isLt (B q)) (n := n) (p + 1)).1
        omega
      · rw [if_neg c2] at h7 ⊢
        by_cases c3 : isDg (B p) = true
        · rw [if_pos c3]
          unfold dEnd
          rw [sk_s (f := fun q => isDg (B q)) (by omega) c3]
          have := (sk_all (f := fun q => isDg (B q)) (n := n) (p + 1)).1
          omega
        · rw [if_neg c3] at h7 ⊢
          by_cases c4 : B p = 34
          · rw [if_pos c4] at h7 ⊢
            by_cases c5 : qOk B n p = true
            · rw [if_pos c5]
              have := (sk_all (f := fun q => decide (¬ B q = 34 ∧ 32 ≤ B q ∧ B q ≤ 126)) (n := n) (p + 1)).1
              unfold qS
              omega
            · rw [if_neg c5] at h7; omega
          · rw [if_neg c4]; omega
theorem wKey_r (w : List Int) : 0 ≤ wKey w ∧ wKey w < 64 ∧ (wKey w = 0 ∨ 9 ≤ wKey w) := by
  have := (kI_r KW w).1
  unfold wKey
  split <;> omega
theorem tkK_r {B : Int → Int} {x : Bool} {n p : Int} : 0 ≤ tkK B x n p ∧ tkK B x n p < 64 := by
  unfold tkK
  have := wKey_r (wdB B p (wEnd B n p - p))
  have := tkR_r (B := B) (n := n) (p := p)
  repeat' split
  all_goals omega
theorem up_id {σ : ga_S} {F : Nat} {n i v : Int} (h : σ F n i = v) : ga_up σ F n i v = σ := by
  rw [← h]; exact up_self σ F n i
/-- the store behind one token -/
def NX (σ : ga_S) (v e p l w : Int) : ga_S := ga_up (ga_up (ga_up (ga_up σ fT_places v (σ fT_count v 0) p) fT_at v 0 e) fT_lengths v (σ fT_count v 0) l) fT_wrong v 0 w
theorem s_t_next_311 {ρ : ga_S} (d : Nat) {v p k : Int} (hv : 0 ≤ v) (hc : 0 ≤ ρ fT_count v 0 ∧ ρ fT_count v 0 < 5002) (hr : 0 ≤ p ∧ p ≤ 5002 ∧ 0 ≤ ρ fT_at v 0 ∧ ρ fT_at v 0 ≤ 5002) : t_next_311 d ρ v p k = some (k, ga_up (ga_up ρ fT_lengths v (ρ fT_count v 0) (ρ fT_at v 0 - p)) fT_wrong v 0 (if k = 7 then p else ρ fT_wrong v 0)) := by
  rw [e_t_next_311, nn_ok _ hv, nn_ok _ hv, nn_ok _ hv, nn_ok _ hv, ck_ok _ hc, w32_ok (by omega)]
  by_cases c : k = 7
  · rw [if_pos c, e_t_next_342, nn_ok _ hv, if_pos c]
  · rw [if_neg c, nn_ok _ hv, e_t_next_342, nn_ok _ hv, if_neg c]
theorem s_t_next_152 {ρ : ga_S} {d : Nat} (hd : 1 ≤ d) {v : Int} (hv : 0 ≤ v) (hs : ρ fT_size v 0 ≤ 5000) (p : Int) : ∀ q, 0 ≤ q → t_next_152 d (ga_up ρ fT_at v 0 q) v p = t_next_191 d (ga_up ρ fT_at v 0 (dEnd (ρ fT_bytes v) (ρ fT_size v 0) q)) v p := by
  refine rg_ind (n := ρ fT_size v 0) ?_ ?_
  · intro q h h0
    rw [e_t_next_152, nn_ok _ hv, nn_ok _ hv, up_eq, up_F (by decide), if_neg (by omega)]
    unfold dEnd; rw [sk_n h]
  · intro q h ih h0
    rw [e_t_next_152, nn_ok _ hv, nn_ok _ hv, up_eq, up_F (F' := fT_size) (by decide), if_pos h, nn_ok _ hv, nn_ok _ hv, nn_ok _ hv, ck_ok _ (by omega), up_F (F' := fT_bytes) (by decide), s_t_isFigure hd]; simp only [Option.bind_some]
    cases c : isDg (ρ fT_bytes v q) with
    | false =>
      rw [if_pos (by decide)]; unfold dEnd; rw [sk_x h c]
    | true =>
      rw [if_neg (by decide), nn_ok _ hv, nn_ok _ hv, up_eq, up_up, w32_ok (by omega), ih (by omega)]
      unfold dEnd; rw [sk_s (f := fun q => isDg (ρ fT_bytes v q)) h c]
theorem s_t_next_78 {ρ : ga_S} {d : Nat} (hd : 1 ≤ d) {v : Int} (hv : 0 ≤ v) (hs : ρ fT_size v 0 ≤ 5000) (p : Int) (hp : 0 ≤ p ∧ p ≤ 5000) : ∀ q, 0 ≤ q → q ≤ 5000 → t_next_78 d (ga_up ρ fT_at v 0 q) v p = if 12 < wEnd (ρ fT_bytes v) (ρ fT_size v 0) q - p then t_next_133 d (ga_up ρ fT_at v 0 (wEnd (ρ fT_bytes v) (ρ fT_size v 0) q)) v p 7 else (c_t_word d (ga_up ρ fT_at v 0 (wEnd (ρ fT_bytes v) (ρ fT_size v 0) q)) v p (wEnd (ρ fT_bytes v) (ρ fT_size v 0) q - p)).bind fun q9 => t_next_133 d q9.2 v p q9.1 := by
  have stop : ∀ q, 0 ≤ q → q ≤ 5000 → (c_t_low d (ga_up ρ fT_at v 0 q) v q = some (0, ga_up ρ fT_at v 0 q) ∨ (q < ρ fT_size v 0 ∧ isLt (ρ fT_bytes v q) = false)) → t_next_78 d (ga_up ρ fT_at v 0 q) v p = if 12 < q - p then t_next_133 d (ga_up ρ fT_at v 0 q) v p 7 else (c_t_word d (ga_up ρ fT_at v 0 q) v p (q - p)).bind fun q9 => t_next_133 d q9.2 v p q9.1 := by
    intro q h0 h5 hz
    have e : ∃ b, c_t_low d (ga_up ρ fT_at v 0 q) v q = some (b, ga_up ρ fT_at v 0 q) ∧ ¬ (97 ≤ b ∧ b ≤ 122) := by
      rcases hz with hz | hz
      · exact ⟨0, hz, by omega⟩
      · refine ⟨_, s_t_low hd hv (by rw [up_F (by decide)]; exact hs) h0, ?_⟩
        rw [up_F (F' := fT_size) (by decide), if_pos hz.1, up_F (F' := fT_bytes) (by decide)]
        exact of_decide_eq_false hz.2
    obtain ⟨b, e1, e2⟩ := e
    rw [e_t_next_78, nn_ok _ hv, nn_ok _ hv, up_eq, e1]; simp only [Option.bind_some]; rw [s_t_isLetter hd]; simp only [Option.bind_some]; rw [decide_eq_false e2, if_pos (by decide), nn_ok _ hv, up_eq, w32_ok (by omega)]
    by_cases c : 12 < q - p
    · rw [if_pos c, if_pos c]
    · rw [if_neg c, if_neg c, nn_ok _ hv, nn_ok _ hv]
  refine rg_ind (n := ρ fT_size v 0) ?_ ?_
  · intro q h h0 h5
    have e : wEnd (ρ fT_bytes v) (ρ fT_size v 0) q = q := by unfold wEnd; exact sk_n h
    rw [e]
    refine stop q h0 h5 (Or.inl ?_)
    rw [s_t_low hd hv (by rw [up_F (by decide)]; exact hs) h0, up_F (F' := fT_size) (by decide), if_neg (by omega)]
  · intro q h ih h0 h5
    cases c : isLt (ρ fT_bytes v q) with
    | false =>
      have e : wEnd (ρ fT_bytes v) (ρ fT_size v 0) q = q := by unfold wEnd; exact sk_x h c
      rw [e]
      exact stop q h0 h5 (Or.inr ⟨h, c⟩)
    | true =>
      have e : wEnd (ρ fT_bytes v) (ρ fT_size v 0) q = wEnd (ρ fT_bytes v) (ρ fT_size v 0) (q + 1) := by unfold wEnd; exact sk_s h c
      rw [e, ← ih (by omega) (by omega)]
      have c2 : 97 ≤ lowB (ρ fT_bytes v q) ∧ lowB (ρ fT_bytes v q) ≤ 122 := of_decide_eq_true c
      rw [e_t_next_78, nn_ok _ hv, nn_ok _ hv, up_eq, s_t_low hd hv (by rw [up_F (by decide)]; exact hs) h0]; simp only [Option.bind_some]; rw [up_F (F' := fT_size) (by decide), if_pos h, up_F (F' := fT_bytes) (by decide), s_t_isLetter hd]; simp only [Option.bind_some]; rw [decide_eq_true c2, if_neg (by decide), nn_ok _ hv, nn_ok _ hv, up_eq, up_up, w32_ok (by omega)]
theorem s_t_quoted_7 {σ : ga_S} (d : Nat) {v : Int} (hv : 0 ≤ v) (hs : σ fT_size v 0 ≤ 5000) (ha : 0 ≤ σ fT_at v 0 ∧ σ fT_at v 0 ≤ 5000) : ∀ q, 0 ≤ q → q ≤ 5001 → t_quoted_7 d σ v q = (let e := sk (fun q => decide (¬ σ fT_bytes v q = 34 ∧ 32 ≤ σ fT_bytes v q ∧ σ fT_bytes v q ≤ 126)) (σ fT_size v 0) q; if e < σ fT_size v 0 ∧ σ fT_bytes v e = 34 ∧ e - σ fT_at v 0 - 1 ≤ 120 then some (2, ga_up σ fT_at v 0 (e + 1)) else some (7, σ)) := by
  refine rg_ind (n := σ fT_size v 0) ?_ ?_
  · intro q h h0 h5
    rw [sk_n h]
    show _ = if q < _ ∧ _ then _ else _
    rw [if_neg (by omega), e_t_quoted_7, nn_ok _ hv, if_neg (by omega), e_t_quoted_58, nn_ok _ hv, if_neg (by omega)]
  · intro q h ih h0 h5
    rw [e_t_quoted_7, nn_ok _ hv, if_pos h, nn_ok _ hv, nn_ok _ hv, ck_ok _ (by omega)]
    by_cases c1 : σ fT_bytes v q = 34
    · rw [if_pos c1, sk_x h (by simp [c1]), e_t_quoted_58, nn_ok _ hv, if_pos h, nn_ok _ hv, w32_ok (x := q - σ fT_at v 0) (by omega), w32_ok (by omega)]
      show _ = if q < _ ∧ _ then _ else _
      by_cases c2 : 120 < q - σ fT_at v 0 - 1
      · rw [if_pos c2, if_neg (by omega)]
      · rw [if_neg c2, nn_ok _ hv, if_pos ⟨h, c1, by omega⟩, w32_ok (by omega)]
    · rw [if_neg c1, nn_ok _ hv, nn_ok _ hv, ck_ok _ (by omega)]
      by_cases c2 : σ fT_bytes v q < 32
      · rw [if_pos c2, sk_x h (by simp; omega)]
        show _ = if q < _ ∧ _ then _ else _
        rw [if_neg (fun z => c1 z.2.1)]
      · rw [if_neg c2, nn_ok _ hv, nn_ok _ hv, ck_ok _ (by omega)]
        by_cases c3 : 126 < σ fT_bytes v q
        · rw [if_pos c3, sk_x h (by simp; omega)]
          show _ = if q < _ ∧ _ then _ else _
          rw [if_neg (fun z => c1 z.2.1)]
        · rw [if_neg c3, w32_ok (by omega), ih (by omega) (by omega), sk_s h (by simp; omega)]
theorem s_t_next {σ : ga_S} {d : Nat} (hd : 3 ≤ d) {v : Int} (hv : 0 ≤ v) (hs : σ fT_size v 0 ≤ 5000) (hA : rAll σ v) (hc : 0 ≤ σ fT_count v 0 ∧ σ fT_count v 0 < 5002) (ha : 0 ≤ σ fT_at v 0 ∧ σ fT_at v 0 ≤ σ fT_size v 0) {p : Int} (hp : p = bl (σ fT_bytes v) (inT σ v) (σ fT_size v 0) (σ fT_at v 0)) : c_t_next d σ v = some (tkK (σ fT_bytes v) (inT σ v) (σ fT_size v 0) p, NX σ v (tkN (σ fT_bytes v) (inT σ v) (σ fT_size v 0) p) p (tkN (σ fT_bytes v) (inT σ v) (σ fT_size v 0) p - p) (if tkK (σ fT_bytes v) (inT σ v) (σ fT_size v 0) p = 7 then p else σ fT_wrong v 0)) := by
  obtain ⟨d, rfl⟩ : ∃ e, d = e + 1 := ⟨d - 1, by omega⟩
  have hb := bl_all (B := σ fT_bytes v) (x := inT σ v) (n := σ fT_size v 0) (σ fT_at v 0)
  rw [← hp] at hb
  have hp0 : 0 ≤ p := by omega
  have hpn : p ≤ σ fT_size v 0 := hb.2.1 ha.2
  have u1 : ∀ F, F ≠ fT_at → (ga_up σ fT_at v 0 p) F = σ F := fun F hF => up_F hF σ v 0 p
  -- the store with the place set
  have hρ : ∃ ρ, ρ = ga_up (ga_up σ fT_places v (σ fT_count v 0) p) fT_lengths v (σ fT_count v 0) 0 := ⟨_, rfl⟩
  obtain ⟨ρ, eρ⟩ := hρ
  have r : ∀ F, F ≠ fT_places → F ≠ fT_lengths → ρ F = σ F := fun F h1 h2 => by rw [eρ, up_F h2, up_F h1]
  have e2 : ga_up (ga_up (ga_up σ fT_at v 0 p) fT_places v (σ fT_count v 0) p) fT_lengths v (σ fT_count v 0) 0 = ga_up ρ fT_at v 0 p := by
    rw [eρ, up_comm (F := fT_at) (F' := fT_places) (by decide), up_comm (F := fT_at) (F' := fT_lengths) (by decide)]
  have fin : ∀ e k, 0 ≤ e → e ≤ 5002 → t_next_311 d (ga_up ρ fT_at v 0 e) v p k = some (k, NX σ v e p (e - p) (if k = 7 then p else σ fT_wrong v 0)) := by
    intro e k h0 h1
    have q : ∀ F, F ≠ fT_at → (ga_up ρ fT_at v 0 e) F = ρ F := fun F hF => up_F hF ρ v 0 e
    rw [s_t_next_311 d hv (by rw [q fT_count (by decide), r fT_count (by decide) (by decide)]; exact hc) (by rw [up_eq]; omega), up_eq, q fT_count (by decide), r fT_count (by decide) (by decide), q fT_wrong (by decide), r fT_wrong (by decide) (by decide), eρ]
    unfold NX
    rw [up_comm (F := fT_lengths) (F' := fT_at) (by decide), up_up]
  have rs : (ga_up ρ fT_at v 0 p) fT_size v 0 = σ fT_size v 0 := by rw [up_F (by decide), r fT_size (by decide) (by decide)]
  have rb : (ga_up ρ fT_at v 0 p) fT_bytes v = σ fT_bytes v := by rw [up_F (by decide), r fT_bytes (by decide) (by decide)]
  have ρs : ρ fT_size v 0 = σ fT_size v 0 := by rw [r fT_size (by decide) (by decide)]
  have ρb : ρ fT_bytes v = σ fT_bytes v := by rw [r fT_bytes (by decide) (by decide)]
  rw [e_t_next, nn_ok _ hv, s_t_blanks (by omega) hv hs ha.1 (by omega), ← hp]; simp only [Option.bind_some]
  simp only [nn_ok _ hv]
  rw [u1 fT_count (by decide), ck_ok _ hc, ck_ok _ hc, up_eq, u1 fT_size (by decide)]
  by_cases c0 : fineB (σ fT_bytes v) (inT σ v) (σ fT_size v 0) p = false
  · have c0' : p < σ fT_size v 0 ∧ σ fT_bytes v p = 91 ∧ inT σ v = false := by
      have := of_decide_eq_false c0
      exact Classical.not_not.mp this
    have eK : tkK (σ fT_bytes v) (inT σ v) (σ fT_size v 0) p = 7 := by
      unfold tkK; rw [if_neg (by omega), if_pos c0'.2]
    have eN : tkN (σ fT_bytes v) (inT σ v) (σ fT_size v 0) p = p := by
      unfold tkN; rw [if_neg (by omega), if_pos c0'.2]
    rw [eK, eN, c0, if_pos b2i_f, if_pos (show (7 : Int) = 7 from rfl), Int.sub_self]
    unfold NX
    rw [up_comm (F := fT_at) (F' := fT_places) (by decide)]
  · have c0t : fineB (σ fT_bytes v) (inT σ v) (σ fT_size v 0) p = true := by
      cases h : fineB (σ fT_bytes v) (inT σ v) (σ fT_size v 0) p with
      | true => rfl
      | false => exact absurd h c0
    have c0' : ¬ (p < σ fT_size v 0 ∧ σ fT_bytes v p = 91 ∧ inT σ v = false) := of_decide_eq_true c0t
    rw [c0t, if_neg (show ¬ b2i true = 0 by decide)]
    by_cases c1 : p < σ fT_size v 0
    · have n0 : ¬ σ fT_size v 0 ≤ p := by omega
      have n91 : ¬ (σ fT_bytes v p = 91 ∧ inT σ v = false) := fun z => c0' ⟨c1, z⟩
      rw [if_pos c1, e2, s_t_low (by omega) hv (by rw [rs]; exact hs) hp0]
      simp only [Option.bind_some]
      rw [rs, if_pos c1, rb, s_t_isLetter (by omega)]
      simp only [Option.bind_some]
      rw [show decide (97 ≤ lowB (σ fT_bytes v p) ∧ lowB (σ fT_bytes v p) ≤ 122) = isLt (σ fT_bytes v p) from rfl]
      cases c2 : isLt (σ fT_bytes v p) with
      | true =>
        have w := sk_all (f := fun q => isLt (σ fT_bytes v q)) (n := σ fT_size v 0) p
        have w2 : p ≤ wEnd (σ fT_bytes v) (σ fT_size v 0) p ∧ wEnd (σ fT_bytes v) (σ fT_size v 0) p ≤ σ fT_size v 0 := ⟨w.1, w.2.1 hpn⟩
        have eN : tkN (σ fT_bytes v) (inT σ v) (σ fT_size v 0) p = wEnd (σ fT_bytes v) (σ fT_size v 0) p := by
          unfold tkN; rw [if_neg n0, if_neg n91, if_pos c2]
        rw [if_neg (show ¬ b2i true = 0 by decide), s_t_next_78 (by omega) hv (by rw [ρs]; exact hs) p (by omega) p hp0 (by omega), ρs, ρb, eN]
        by_cases c3 : 12 < wEnd (σ fT_bytes v) (σ fT_size v 0) p - p
        · have eK : tkK (σ fT_bytes v) (inT σ v) (σ fT_size v 0) p = 7 := by
            unfold tkK; rw [if_neg n0, if_neg n91, if_pos c2, if_pos c3]
          rw [if_pos c3, eK, e_t_next_133, fin _ 7 (by omega) (by omega)]
        · have eK : tkK (σ fT_bytes v) (inT σ v) (σ fT_size v 0) p = wKey (wdB (σ fT_bytes v) p (wEnd (σ fT_bytes v) (σ fT_size v 0) p - p)) := by
            unfold tkK; rw [if_neg n0, if_neg n91, if_pos c2, if_neg c3]
          have hA' : rAll (ga_up ρ fT_at v 0 (wEnd (σ fT_bytes v) (σ fT_size v 0) p)) v := by
            intro k h1 h2
            rw [up_F (by decide), r fT_all (by decide) (by decide)]; exact hA k h1 h2
          have rs' : (ga_up ρ fT_at v 0 (wEnd (σ fT_bytes v) (σ fT_size v 0) p)) fT_size v 0 = σ fT_size v 0 := by rw [up_F (by decide), ρs]
          rw [if_neg c3, eK, s_t_word (by omega) hv (by rw [rs']; exact hs) hA' hp0 (by omega) (by rw [rs']; omega)]
          simp only [Option.bind_some]
          rw [e_t_next_133, up_F (F' := fT_bytes) (by decide), ρb, fin _ _ (by omega) (by omega)]
      | false =>
        have nL : ¬ isLt (σ fT_bytes v p) = true := by rw [c2]; decide
        rw [if_pos b2i_f, up_eq, ck_ok _ (by omega), rb, s_t_isFigure (by omega)]
        simp only [Option.bind_some]
        cases c3 : isDg (σ fT_bytes v p) with
        | true =>
          have w := sk_all (f := fun q => isDg (σ fT_bytes v q)) (n := σ fT_size v 0) p
          have w2 : p ≤ dEnd (σ fT_bytes v) (σ fT_size v 0) p ∧ dEnd (σ fT_bytes v) (σ fT_size v 0) p ≤ σ fT_size v 0 := ⟨w.1, w.2.1 hpn⟩
          have eN : tkN (σ fT_bytes v) (inT σ v) (σ fT_size v 0) p = dEnd (σ fT_bytes v) (σ fT_size v 0) p := by
            unfold tkN; rw [if_neg n0, if_neg n91, if_neg nL, if_pos c3]
          rw [if_neg (show ¬ b2i true = 0 by decide), s_t_next_152 (by omega) hv (by rw [ρs]; exact hs) p p hp0, ρs, ρb, e_t_next_191, nn_ok _ hv, up_eq, w32_ok (by omega), eN]
          by_cases c4 : 6 < dEnd (σ fT_bytes v) (σ fT_size v 0) p - p
          · have eK : tkK (σ fT_bytes v) (inT σ v) (σ fT_size v 0) p = 7 := by
              unfold tkK tkR; rw [if_neg n0, if_neg n91, if_neg nL, if_pos c3, if_pos c4]
            rw [if_pos c4, eK, e_t_next_211, fin _ 7 (by omega) (by omega)]
          · have eK : tkK (σ fT_bytes v) (inT σ v) (σ fT_size v 0) p = 1 := by
              unfold tkK tkR; rw [if_neg n0, if_neg n91, if_neg nL, if_pos c3, if_neg c4]
            rw [if_neg c4, eK, e_t_next_211, fin _ 1 (by omega) (by omega)]
        | false =>
          have nD : ¬ isDg (σ fT_bytes v p) = true := by rw [c3]; decide
          rw [if_pos b2i_f, up_eq, ck_ok _ (by omega), rb]
          by_cases c4 : σ fT_bytes v p = 34
          · obtain ⟨d, rfl⟩ : ∃ e, d = e + 1 := ⟨d - 1, by omega⟩
            rw [if_pos c4, e_t_quoted, nn_ok _ hv, up_eq, w32_ok (by omega), s_t_quoted_7 d hv (by rw [rs]; exact hs) (by rw [up_eq]; omega) (p + 1) (by omega) (by omega), rs, rb, up_eq]
            have w := sk_all (f := fun q => decide (¬ σ fT_bytes v q = 34 ∧ 32 ≤ σ fT_bytes v q ∧ σ fT_bytes v q ≤ 126)) (n := σ fT_size v 0) (p + 1)
            by_cases ok : qOk (σ fT_bytes v) (σ fT_size v 0) p = true
            · have c5 := of_decide_eq_true ok
              have eK : tkK (σ fT_bytes v) (inT σ v) (σ fT_size v 0) p = 2 := by
                unfold tkK tkR; rw [if_neg n0, if_neg n91, if_neg nL, if_neg nD, if_pos c4, if_pos ok]
              have eN : tkN (σ fT_bytes v) (inT σ v) (σ fT_size v 0) p = qS (σ fT_bytes v) (σ fT_size v 0) p + 1 := by
                unfold tkN; rw [if_neg n0, if_neg n91, if_neg nL, if_neg nD, if_pos c4, if_pos ok]
              rw [eK, eN]
              unfold qS at c5 ⊢
              simp only []
              rw [if_pos c5]
              simp only [Option.bind_some]
              rw [up_up, fin _ 2 (by omega) (by omega)]
            · have c5 : ¬ (qS (σ fT_bytes v) (σ fT_size v 0) p < σ fT_size v 0 ∧ σ fT_bytes v (qS (σ fT_bytes v) (σ fT_size v 0) p) = 34 ∧ qS (σ fT_bytes v) (σ fT_size v 0) p - p - 1 ≤ 120) := fun z => ok (decide_eq_true z)
              have eK : tkK (σ fT_bytes v) (inT σ v) (σ fT_size v 0) p = 7 := by
                unfold tkK tkR; rw [if_neg n0, if_neg n91, if_neg nL, if_neg nD, if_pos c4, if_neg ok]
              have eN : tkN (σ fT_bytes v) (inT σ v) (σ fT_size v 0) p = p := by
                unfold tkN; rw [if_neg n0, if_neg n91, if_neg nL, if_neg nD, if_pos c4, if_neg ok]
              rw [eK, eN]
              unfold qS at c5
              rw [if_neg c5]
              show t_next_311 _ _ v p 7 = _
              rw [fin _ 7 (by omega) (by omega)]
          · have eN : tkN (σ fT_bytes v) (inT σ v) (σ fT_size v 0) p = p + 1 := by
              unfold tkN; rw [if_neg n0, if_neg n91, if_neg nL, if_neg nD, if_neg c4]
            have eKK : tkK (σ fT_bytes v) (inT σ v) (σ fT_size v 0) p = if σ fT_bytes v p = 46 then 3 else if σ fT_bytes v p = 44 then 4 else if σ fT_bytes v p = 59 then 5 else if σ fT_bytes v p = 58 then 6 else 7 := by
              unfold tkK tkR; rw [if_neg n0, if_neg n91, if_neg nL, if_neg nD, if_neg c4]
            rw [if_neg c4, ck_ok _ (by omega), w32_ok (by omega), eN]
            by_cases c5 : σ fT_bytes v p = 46
            · have eK : tkK (σ fT_bytes v) (inT σ v) (σ fT_size v 0) p = 3 := by rw [eKK, if_pos c5]
              rw [if_pos c5, eK, e_t_next_310, up_up, fin _ 3 (by omega) (by omega)]
            · rw [if_neg c5]
              by_cases c6 : σ fT_bytes v p = 44
              · have eK : tkK (σ fT_bytes v) (inT σ v) (σ fT_size v 0) p = 4 := by rw [eKK, if_neg c5, if_pos c6]
                rw [if_pos c6, eK, e_t_next_310, up_up, fin _ 4 (by omega) (by omega)]
              · rw [if_neg c6]
                by_cases c7 : σ fT_bytes v p = 59
                · have eK : tkK (σ fT_bytes v) (inT σ v) (σ fT_size v 0) p = 5 := by rw [eKK, if_neg c5, if_neg c6, if_pos c7]
                  rw [if_pos c7, eK, e_t_next_310, up_up, fin _ 5 (by omega) (by omega)]
                · rw [if_neg c7]
                  by_cases c8 : σ fT_bytes v p = 58
                  · have eK : tkK (σ fT_bytes v) (inT σ v) (σ fT_size v 0) p = 6 := by rw [eKK, if_neg c5, if_neg c6, if_neg c7, if_pos c8]
                    rw [if_pos c8, eK, e_t_next_310, up_up, fin _ 6 (by omega) (by omega)]
                  · have eK : tkK (σ fT_bytes v) (inT σ v) (σ fT_size v 0) p = 7 := by rw [eKK, if_neg c5, if_neg c6, if_neg c7, if_neg c8]
                    rw [if_neg c8, eK, e_t_next_310, up_up, fin _ 7 (by omega) (by omega)]
    · have eK : tkK (σ fT_bytes v) (inT σ v) (σ fT_size v 0) p = 8 := by unfold tkK; rw [if_pos (by omega)]
      have eN : tkN (σ fT_bytes v) (inT σ v) (σ fT_size v 0) p = p := by unfold tkN; rw [if_pos (by omega)]
      rw [if_neg c1, eK, eN, if_neg (show ¬ (8 : Int) = 7 by decide), Int.sub_self]
      unfold NX
      rw [up_comm (F := fT_at) (F' := fT_places) (by decide)]
      congr 2
      refine (up_id ?_).symm
      rw [up_F (by decide), up_F (by decide), up_F (by decide)]

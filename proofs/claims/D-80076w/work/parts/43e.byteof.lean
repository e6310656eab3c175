/-! the letters of a name, model -/
def bt (L : List Int) (j : Int) : Int := if j < L.length then L.getD j.toNat 0 else -1
theorem bt_app (a b : List Int) {j : Int} (hj : 0 ≤ j) : bt (a ++ b) j = if j < a.length then a.getD j.toNat 0 else bt b (j - a.length) := by
  obtain ⟨n, rfl⟩ : ∃ n : Nat, j = n := ⟨j.toNat, by omega⟩
  unfold bt
  rw [List.length_append]
  by_cases c : (n : Int) < a.length
  · rw [if_pos c, if_pos (by omega), List.getD_eq_getElem?_getD, List.getD_eq_getElem?_getD, List.getElem?_append_left (by omega)]
  · rw [if_neg c]
    by_cases c1 : (n : Int) - a.length < b.length
    · rw [if_pos c1, if_pos (by omega), List.getD_eq_getElem?_getD, List.getD_eq_getElem?_getD, List.getElem?_append_right (by omega), show (n : Int).toNat - a.length = ((n : Int) - a.length).toNat by omega]
    · rw [if_neg c1, if_neg (by omega)]
theorem bt_cons (c : Int) (L : List Int) {j : Int} (hj : 0 ≤ j) : bt (c :: L) j = if j = 0 then c else bt L (j - 1) := by
  have e := bt_app [c] L hj
  rw [show [c] ++ L = c :: L from rfl] at e
  rw [e]
  by_cases z : j = 0
  · rw [if_pos z, if_pos (by rw [z]; show (0 : Int) < 1; decide), z]; rfl
  · rw [if_neg z, if_neg (by show ¬ j < 1; omega)]; rfl
theorem bt_nil {j : Int} (hj : 0 ≤ j) : bt [] j = -1 := by
  unfold bt; rw [if_neg (by show ¬ j < 0; omega)]
section
variable {τ : ga_S} {W : List (List Int)} {k : Int}
def sL (τ : ga_S) (k : Int) : List Int := if τ fM_lexLong 0 k = 0 then [] else [115]
/-- to the end of one word -/
theorem s_byteOf_19 (hk : 0 ≤ k ∧ k < 300) {w : List Int} {n : Nat} (hn : n < 3) (ew : τ fM_lexWord 0 (3 * k + n) = pack w) (h : isW w ∧ w ≠ [] ∧ w.length ≤ 12) {d : Nat} (hd : 1 ≤ d) {j : Int} (hj : 0 ≤ j ∧ j < 2147483648) : ∀ m i : Nat, i + m = w.length → m_byteOf_19 d τ k j (n : Nat) (i : Nat) = if j < w.length then some (w.getD j.toNat 0, τ) else if ((n : Int) + 1) = τ fM_lexSize 0 k then m_byteOf_90 d τ k (j - w.length) (n : Nat) 1 else m_byteOf_90 d τ k (j - w.length) (n : Nat) 0
  | 0, i, e => by
    have ei : i = w.length := by omega
    rw [e_m_byteOf_19, w32_ok (x := 3 * k) (by omega), w32_ok (x := 3 * k + n) (by omega), ck_ok _ (by omega), ew, s_letterOf h.1 h.2.1 h.2.2 hd (by omega), Option.bind_some, if_neg (show ¬ ((i : Int) < w.length) by omega), if_pos rfl, ei]
    by_cases c : j < (w.length : Int)
    · rw [if_pos c, if_pos c, ck_ok _ (by omega)]
      show Option.bind (c_m_letterOf d τ (τ fM_lexWord 0 (3 * k + n)) j) _ = _
      rw [ew, s_letterOf h.1 h.2.1 h.2.2 hd hj, Option.bind_some, if_pos c]
    · rw [if_neg c, if_neg c, ck_ok _ hk, w32_ok (x := (n : Int) + 1) (by omega), w32_ok (x := j - w.length) (by omega)]
  | m + 1, i, e => by
    have hi : i < w.length := by omega
    have z : w.getD i 0 ≠ -1 := by
      have q := h.1 (w.getD i 0) (by rw [List.getD_eq_getElem?_getD, List.getElem?_eq_getElem hi]; exact List.getElem_mem hi)
      omega
    have s := s_byteOf_19 hk hn ew h hd hj m (i + 1) (by omega)
    rw [e_m_byteOf_19, w32_ok (x := 3 * k) (by omega), w32_ok (x := 3 * k + n) (by omega), ck_ok _ (by omega), ew, s_letterOf h.1 h.2.1 h.2.2 hd (by omega), Option.bind_some, if_pos (show (i : Int) < w.length by omega)]
    refine Eq.trans (if_neg z) ?_
    rw [w32_ok (x := (i : Int) + 1) (by omega)]
    exact s
theorem s_byteOf_5 (hk : 0 ≤ k ∧ k < 300) (hW : wsW W) (h3 : W.length ≤ 3) (es : (W.length : Int) = τ fM_lexSize 0 k) (ew : ∀ i : Nat, i < W.length → τ fM_lexWord 0 (3 * k + i) = pack (W.getD i [])) {d : Nat} (hd : 1 ≤ d) : ∀ (R P : List (List Int)), W = P ++ R → ∀ j : Int, 0 ≤ j → j < 2147483648 → m_byteOf_5 d τ k j (P.length : Nat) = some (if R = [] then -1 else bt (jn R ++ sL τ k) j, τ)
  | [], P, e, j, h0, h1 => by
    rw [e_m_byteOf_5, ck_ok _ hk, if_neg (by rw [← es, e]; simp), if_pos rfl]
  | w :: r, P, e, j, h0, h1 => by
    have el : W.length = P.length + 1 + r.length := by rw [e]; simp; omega
    have gw : W.getD P.length [] = w := by rw [e]; simp
    have hw := hW w (by rw [e]; simp)
    have ih := s_byteOf_5 hk hW h3 es ew hd r (P ++ [w]) (by rw [e]; simp)
    rw [List.length_append, show [w].length = 1 from rfl] at ih
    rw [e_m_byteOf_5, ck_ok _ hk, if_pos (by rw [← es]; omega)]
    have s := s_byteOf_19 (τ := τ) (j := j) hk (show P.length < 3 by omega) (by rw [ew _ (by omega), gw]) hw hd ⟨h0, h1⟩ w.length 0 (by omega)
    rw [if_neg (by simp)]
    refine Eq.trans s ?_
    cases r with
    | nil =>
      rw [jn1, bt_app _ _ h0]
      by_cases c : j < (w.length : Int)
      · rw [if_pos c, if_pos c]
      · rw [if_neg c, if_neg c, if_pos (by rw [← es, el]; simp), e_m_byteOf_90]
        unfold sL
        by_cases c0 : j - w.length = 0
        · rw [if_pos c0, if_neg (by decide), ck_ok _ hk, c0]
          by_cases c1 : τ fM_lexLong 0 k = 0
          · rw [if_pos c1, if_pos c1]; rfl
          · rw [if_neg c1, if_neg c1]; rfl
        · rw [if_neg c0, w32_ok (by omega), w32_ok (by omega)]
          have q := ih (j - w.length + -1) (by omega) (by omega)
          refine Eq.trans q ?_
          rw [if_pos rfl]
          by_cases c1 : τ fM_lexLong 0 k = 0
          · rw [if_pos c1, bt_nil (by omega)]
          · rw [if_neg c1, bt_cons _ _ (by omega), if_neg c0, bt_nil (by omega)]
    | cons x r =>
      rw [jn2, List.append_assoc, bt_app _ _ h0]
      by_cases c : j < (w.length : Int)
      · rw [if_pos c, if_pos c]
      · rw [if_neg c, if_neg c, if_neg (by rw [← es, el, List.length_cons]; omega), e_m_byteOf_90, List.cons_append, bt_cons _ _ (by omega)]
        by_cases c0 : j - w.length = 0
        · rw [if_pos c0, if_pos rfl, if_pos c0]
        · rw [if_neg c0, if_neg c0, w32_ok (by omega), w32_ok (by omega)]
          have q := ih (j - w.length + -1) (by omega) (by omega)
          refine Eq.trans q ?_
          rw [if_neg (by simp)]; rfl
end

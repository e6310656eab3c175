/-! the words at hand -/
def jn : List (List Int) → List Int
  | [] => []
  | w :: r => match r with
    | [] => w
    | _ :: _ => w ++ 32 :: jn r
theorem jn1 (w : List Int) : jn [w] = w := rfl
theorem jn2 (w x : List Int) (r : List (List Int)) : jn (w :: x :: r) = w ++ 32 :: jn (x :: r) := rfl
theorem jn_snoc (W : List (List Int)) (w : List Int) (h : W ≠ []) : jn (W ++ [w]) = jn W ++ 32 :: w := by
  induction W with
  | nil => exact absurd rfl h
  | cons x r ih =>
    cases r with
    | nil => rfl
    | cons y r =>
      show x ++ 32 :: jn ((y :: r) ++ [w]) = (x ++ 32 :: jn (y :: r)) ++ 32 :: w
      rw [ih (by simp)]; simp
def spl (σ : ga_S) : List Int := (rg 0 (σ fD_size 0 0)).map (fun i => σ fD_spelled 0 i)
def ent (σ : ga_S) (k : Int) : List Int := (rg 0 (σ fD_sizes 0 k)).map (fun i => σ fD_letters 0 (σ fD_froms 0 k + i))
def spL : List Nat := [fD_size, fD_spelled]
/-- the words at hand are L (its first thousand bytes) -/
def SPd (σ σ' : ga_S) (L : List Int) : Prop := fr spL σ σ' ∧ spl σ' = L.take 1000 ∧ 0 ≤ σ' fD_size 0 0 ∧ σ' fD_size 0 0 ≤ 1000
theorem spl_len {σ : ga_S} (h : 0 ≤ σ fD_size 0 0) : ((spl σ).length : Int) = σ fD_size 0 0 := by
  unfold spl; rw [List.length_map, rg_len, if_pos h]; omega
theorem SPd_put {σ σ1 : ga_S} {L : List Int} (h : SPd σ σ1 L) {d : Nat} (hd : 1 ≤ d) {b : Int} (hb : -128 ≤ b ∧ b < 128) : ∃ σ2, c_d_put d σ1 b = some (0, σ2) ∧ SPd σ σ2 (L ++ [b]) := by
  obtain ⟨d, rfl⟩ : ∃ e, d = e + 1 := ⟨d - 1, by omega⟩
  obtain ⟨h1, h2, h3, h4⟩ := h
  have hl := spl_len h3
  rw [h2] at hl
  rw [e_d_put]
  by_cases c : σ1 fD_size 0 0 < 1000
  · have hL : L.length < 1000 := by
      rw [List.length_take] at hl
      omega
    have e0 : L.take 1000 = L := List.take_of_length_le (by omega)
    have hl2 : (L.length : Int) = σ1 fD_size 0 0 := by rw [e0] at hl; exact hl
    rw [if_pos c, ck_ok _ ⟨h3, c⟩, w32_ok (by omega), w8_w8, w8_ok hb]
    refine ⟨_, rfl, fr_trans h1 (fr_trans (fr_u (by decide)) (fr_u (by decide))), ?_, ?_, ?_⟩
    · rw [List.take_of_length_le (by rw [List.length_append]; simp; omega)]
      have e1 : (ga_up (ga_up σ1 fD_size 0 0 (σ1 fD_size 0 0 + 1)) fD_spelled 0 (σ1 fD_size 0 0) b) fD_size 0 0 = σ1 fD_size 0 0 + 1 := by rw [up_F (by decide), up_eq]
      unfold spl
      rw [e1, rg_snoc 0 h3, List.map_append]
      congr 1
      · rw [← e0, ← h2]
        unfold spl
        apply List.map_congr_left
        intro i hi
        have := (rg_mem 0).mp hi
        rw [up_i (by omega), up_F (by decide)]
      · simp only [List.map_cons, List.map_nil]
        rw [up_eq]
    · rw [up_F (by decide), up_eq]; omega
    · rw [up_F (by decide), up_eq]; omega
  · have e : σ1 fD_size 0 0 = 1000 := by omega
    rw [if_neg c]
    refine ⟨_, rfl, h1, ?_, h3, h4⟩
    have hL : 1000 ≤ L.length := by
      rw [List.length_take] at hl
      omega
    rw [h2, List.take_append_of_le_length hL]
/-- the word of a token -/
def wT (σ : ga_S) (v k : Int) : List Int := wdB (σ fT_bytes v) (σ fT_places v k) (σ fT_lengths v k)
/-- a token lies within the text -/
def tIn (σ : ga_S) (v k : Int) : Prop := 0 ≤ k ∧ k < 5002 ∧ 0 ≤ σ fT_places v k ∧ 0 ≤ σ fT_lengths v k ∧ σ fT_places v k + σ fT_lengths v k ≤ σ fT_size v 0
def byteR (σ : ga_S) (v : Int) : Prop := ∀ i, -128 ≤ σ fT_bytes v i ∧ σ fT_bytes v i < 128
theorem lowB_r {b : Int} (h : -128 ≤ b ∧ b < 128) : -128 ≤ lowB b ∧ lowB b < 128 := by
  unfold lowB; split <;> omega
theorem SPd_T {σ σ1 : ga_S} {L : List Int} (h : SPd σ σ1 L) (v : Int) : σ1 fT_size v = σ fT_size v ∧ σ1 fT_bytes v = σ fT_bytes v ∧ σ1 fT_places v = σ fT_places v ∧ σ1 fT_lengths v = σ fT_lengths v := by
  have f := h.1
  rw [f fT_size (by decide), f fT_bytes (by decide), f fT_places (by decide), f fT_lengths (by decide)]
  exact ⟨rfl, rfl, rfl, rfl⟩
theorem s_d_spellT_29 {σ : ga_S} {d : Nat} (hd : 1 ≤ d) {v a b k : Int} (hv : 0 ≤ v) (hs : σ fT_size v 0 ≤ 5000) (hB : byteR σ v) (hk : tIn σ v k) : ∀ i, 0 ≤ i → ∀ σ1 L, SPd σ σ1 L → ∃ σ2, d_spellT_29 d σ1 v a b k i = d_spellT_8 d σ2 v a b (k + 1) ∧ SPd σ σ2 (L ++ (rg i (σ fT_lengths v k)).map (fun i => lowB (σ fT_bytes v (σ fT_places v k + i)))) := by
  obtain ⟨k0, k1, k2, k3, k4⟩ := hk
  refine rg_ind (n := σ fT_lengths v k) ?_ ?_
  · intro i h h0 σ1 L hS
    have T := SPd_T hS v
    rw [e_d_spellT_29, nn_ok _ hv, nn_ok _ hv, ck_ok _ ⟨k0, k1⟩, T.2.2.2, if_neg (by omega), w32_ok (by omega), rg_n h]
    refine ⟨σ1, rfl, ?_⟩
    simpa using hS
  · intro i h ih h0 σ1 L hS
    have T := SPd_T hS v
    rw [e_d_spellT_29, nn_ok _ hv, nn_ok _ hv, ck_ok _ ⟨k0, k1⟩, T.2.2.2, if_pos h, nn_ok _ hv, nn_ok _ hv, ck_ok _ ⟨k0, k1⟩, nn_ok _ hv, T.2.2.1, w32_ok (by omega), s_t_low hd hv (by rw [T.1]; exact hs) (by omega)]; simp only [Option.bind_some]; rw [T.1, if_pos (by omega), T.2.1]
    obtain ⟨σ2, e2, S2⟩ := SPd_put hS hd (lowB_r (hB (σ fT_places v k + i)))
    rw [e2]; simp only [Option.bind_some]; rw [w32_ok (by omega)]
    obtain ⟨σ3, e3, S3⟩ := ih (by omega) σ2 _ S2
    refine ⟨σ3, e3, ?_⟩
    rw [rg_s h, List.map_cons]
    simpa using S3
theorem s_d_spellT_8 {σ : ga_S} {d : Nat} (hd : 1 ≤ d) {v a b : Int} (hv : 0 ≤ v) (hs : σ fT_size v 0 ≤ 5000) (hB : byteR σ v) (hk : ∀ k, a ≤ k → k < b → tIn σ v k) : ∀ k, a ≤ k → ∀ σ1, SPd σ σ1 (jn ((rg a k).map (wT σ v))) → ∃ σ2, d_spellT_8 d σ1 v a b k = some (0, σ2) ∧ SPd σ σ2 (if k < b then jn ((rg a b).map (wT σ v)) else jn ((rg a k).map (wT σ v))) := by
  refine rg_ind (n := b) ?_ ?_
  · intro k h h0 σ1 hS
    rw [e_d_spellT_8, if_neg (by omega), if_neg (by omega)]
    exact ⟨σ1, rfl, hS⟩
  · intro k h ih h0 σ1 hS
    rw [e_d_spellT_8, if_pos h, if_pos h]
    have ti := hk k h0 h
    have key : ∀ σ2 L, SPd σ σ2 L → L ++ wT σ v k = jn ((rg a (k + 1)).map (wT σ v)) → ∃ σ3, d_spellT_26 d σ2 v a b k = some (0, σ3) ∧ SPd σ σ3 (jn ((rg a b).map (wT σ v))) := by
      intro σ2 L S2 eL
      rw [e_d_spellT_26]
      obtain ⟨σ3, e3, S3⟩ := s_d_spellT_29 hd (a := a) (b := b) hv hs hB ti 0 (by omega) σ2 L S2
      have S3' : SPd σ σ3 (jn ((rg a (k + 1)).map (wT σ v))) := by rw [← eL]; exact S3
      obtain ⟨σ4, e4, S4⟩ := ih (by omega) σ3 S3'
      refine ⟨σ4, by rw [e3, e4], ?_⟩
      by_cases c : k + 1 < b
      · rw [if_pos c] at S4; exact S4
      · have e : k + 1 = b := by omega
        rw [if_neg c, e] at S4; exact S4
    by_cases c : a < k
    · rw [if_pos c]
      obtain ⟨σ2, e2, S2⟩ := SPd_put hS hd (b := 32) (by omega)
      rw [e2]; simp only [Option.bind_some]
      refine key σ2 _ S2 ?_
      rw [rg_snoc a h0, List.map_append, List.map_cons, List.map_nil, jn_snoc]
      · simp
      · rw [rg_s c]; simp
    · have e : k = a := by omega
      rw [if_neg c]
      refine key σ1 _ hS ?_
      rw [e, rg_n (i := a) (n := a) (by omega), rg_s (i := a) (n := a + 1) (by omega), rg_n (i := a + 1) (by omega)]
      rfl
/-- words of tokens from a up to b -/
def wsT (σ : ga_S) (v a b : Int) : List (List Int) := (rg a b).map (wT σ v)
theorem s_d_spellT {σ : ga_S} {d : Nat} (hd : 2 ≤ d) {v a b : Int} (hv : 0 ≤ v) (hs : σ fT_size v 0 ≤ 5000) (hB : byteR σ v) (hk : ∀ k, a ≤ k → k < b → tIn σ v k) (hab : a ≤ b) : ∃ σ2, c_d_spellT d σ v a b = some (0, σ2) ∧ SPd σ σ2 (jn (wsT σ v a b)) := by
  obtain ⟨d, rfl⟩ : ∃ e, d = e + 1 := ⟨d - 1, by omega⟩
  rw [e_d_spellT]
  have S : SPd σ (ga_up σ fD_size 0 0 0) (jn ((rg a a).map (wT σ v))) := by
    refine ⟨fr_u (by decide), ?_, ?_, ?_⟩
    · unfold spl; rw [up_eq, rg_n (i := 0) (by omega), rg_n (i := a) (by omega)]; rfl
    · rw [up_eq]; omega
    · rw [up_eq]; omega
  obtain ⟨σ2, e2, S2⟩ := s_d_spellT_8 (d := d) (by omega) hv hs hB hk a (by omega) _ S
  refine ⟨σ2, e2, ?_⟩
  by_cases c : a < b
  · rw [if_pos c] at S2; exact S2
  · have e : a = b := by omega
    rw [if_neg c] at S2
    unfold wsT; rw [← e]; exact S2
theorem s_d_spellS_10 {σ : ga_S} {d : Nat} (hd : 1 ≤ d) {s : Int} (hl : am_len s ≤ 1000) : ∀ i, 0 ≤ i → i ≤ am_len s → ∀ σ1, fr spL σ σ1 → σ1 fD_size 0 0 = am_len s → (∀ j, 0 ≤ j → j < i → σ1 fD_spelled 0 j = w8 (am_chr s j)) → ∃ σ2, d_spellS_10 d σ1 s i = some (0, σ2) ∧ fr spL σ σ2 ∧ σ2 fD_size 0 0 = am_len s ∧ (∀ j, 0 ≤ j → j < am_len s → σ2 fD_spelled 0 j = w8 (am_chr s j)) := by
  refine rg_ind (n := am_len s) ?_ ?_
  · intro i h h0 h1 σ1 f e hj
    rw [e_d_spellS_10, e, if_neg (by omega)]
    exact ⟨σ1, rfl, f, e, fun j a b => hj j a (by omega)⟩
  · intro i h ih h0 h1 σ1 f e hj
    rw [e_d_spellS_10, e, if_pos h, s_p_chr hd _ _ _ ⟨h0, h⟩]; simp only [Option.bind_some]; rw [ck_ok _ (by omega), w32_ok (by omega), w8_w8]
    refine ih (by omega) (by omega) _ (fr_trans f (fr_u (by decide))) (by rw [up_F (by decide)]; exact e) (fun j a b => ?_)
    by_cases c : j = i
    · rw [c, up_eq]
    · rw [up_i c]; exact hj j a (by omega)

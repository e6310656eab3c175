/-! words and keys, by the programs -/
theorem s_m_wordOf_5 {τ : ga_S} {d : Nat} (hd : 2 ≤ d) {p n : Int} (h0 : 0 ≤ p) (hn : n ≤ 12) (hp : p + n ≤ 5000) (hl : ∀ q, p ≤ q → q < p + n → isLt (τ fM_story 0 q) = true) : ∀ i, 0 ≤ i → i ≤ n → m_wordOf_story_5 d τ p n (pack (wdB (τ fM_story 0) p i)) i = some (pack (wdB (τ fM_story 0) p n), τ) := by
  refine rg_ind (n := n) ?_ ?_
  · intro i h h1 h2
    have e : i = n := by omega
    rw [e_m_wordOf_story_5, if_neg (by omega), e]
  · intro i h ih h1 h2
    have hc := hl (p + i) (by omega) (by omega)
    have hc2 : 97 ≤ lowB (τ fM_story 0 (p + i)) ∧ lowB (τ fM_story 0 (p + i)) ≤ 122 := of_decide_eq_true hc
    have hw : isW (wdB (τ fM_story 0) p i) := wdB_W (fun q a b => hl q a (by omega))
    have hlen := wdB_len (B := τ fM_story 0) (p := p) (n := i) h1
    have hb := pack_11 hw (by omega)
    have hb0 := (pack_lt hw).1
    rw [e_m_wordOf_story_5, if_pos h, w32_ok (by omega), ck_ok _ (by omega), s_m_small hd]; simp only [Option.bind_some]; rw [w32_ok (by omega), w32_ok (by omega), lor5 hb0 (by omega) (by omega) (by omega)]
    have e : 32 * pack (wdB (τ fM_story 0) p i) + (lowB (τ fM_story 0 (p + i)) - 96) = pack (wdB (τ fM_story 0) p (i + 1)) := by
      have e2 : wdB (τ fM_story 0) p (i + 1) = wdB (τ fM_story 0) p i ++ [lowB (τ fM_story 0 (p + i))] := by
        unfold wdB; rw [rg_snoc 0 h1, List.map_append]; rfl
      rw [e2]; unfold pack; rw [packF_app]; rfl
    rw [e, ih (by omega) (by omega)]
theorem s_m_wordOf {τ : ga_S} {d : Nat} (hd : 3 ≤ d) {p n : Int} (h0 : 0 ≤ p) (hn0 : 0 ≤ n) (hn : n ≤ 12) (hp : p + n ≤ 5000) (hl : ∀ q, p ≤ q → q < p + n → isLt (τ fM_story 0 q) = true) : c_m_wordOf_story d τ p n = some (pack (wdB (τ fM_story 0) p n), τ) := by
  obtain ⟨d, rfl⟩ : ∃ e, d = e + 1 := ⟨d - 1, by omega⟩
  have e := s_m_wordOf_5 (τ := τ) (d := d) (by omega) h0 hn hp hl 0 (by omega) hn0
  have e0 : wdB (τ fM_story 0) p 0 = [] := by unfold wdB; rw [rg_n (by omega)]; rfl
  rw [e0] at e
  rw [e_m_wordOf_story]; exact e
def KWk (k : Int) : List Int := KW.getD k.toNat []
/-- the model's keys are there -/
def rKeys (τ : ga_S) : Prop := ∀ k, 0 ≤ k → k < 55 → τ fM_keyWords 0 k = pack (KWk k)
theorem KWk_W (k : Int) (h0 : 0 ≤ k) (h : k < 55) : isW (KWk k) := by
  have hl : k.toNat < KW.length := by rw [KW_len]; omega
  unfold KWk
  rw [List.getD_eq_getElem?_getD, List.getElem?_eq_getElem hl]
  exact KW_W _ (List.getElem_mem hl)
theorem drop_s (k : Int) (h0 : 0 ≤ k) (h : k < 55) : KW.drop k.toNat = KWk k :: KW.drop (k + 1).toNat := by
  have hl : k.toNat < KW.length := by rw [KW_len]; omega
  unfold KWk
  rw [List.getD_eq_getElem?_getD, List.getElem?_eq_getElem hl, show (k + 1).toNat = k.toNat + 1 by omega]
  exact List.drop_eq_getElem_cons hl
theorem drop_e : KW.drop (55 : Int).toNat = [] := by decide
theorem kI_s (k : Int) (w : List Int) (h0 : 0 ≤ k) (h : k < 55) : k + kI (KW.drop k.toNat) w = if KWk k = w then k else (k + 1) + kI (KW.drop (k + 1).toNat) w := by
  rw [drop_s k h0 h]
  show k + (if KWk k = w then 0 else 1 + kI (KW.drop (k + 1).toNat) w) = _
  split <;> omega
theorem kI_lt (k : Int) (w : List Int) (h0 : 0 ≤ k) (h : k ≤ 55) : 0 ≤ kI (KW.drop k.toNat) w ∧ k + kI (KW.drop k.toNat) w ≤ 55 := by
  have a := kI_r (KW.drop k.toNat) w
  rw [List.length_drop, KW_len] at a
  omega
theorem s_m_keyOf_2 {τ : ga_S} (d : Nat) (hk : rKeys τ) {w : List Int} (hw : isW w) : ∀ i, 0 ≤ i → i ≤ 55 → m_keyOf_2 d τ (pack w) i = some (if i + kI (KW.drop i.toNat) w < 55 then 100 + (i + kI (KW.drop i.toNat) w) else 3, τ) := by
  refine rg_ind (n := 55) ?_ ?_
  · intro i h h1 h2
    have e : i = 55 := by omega
    subst e
    rw [e_m_keyOf_2, if_neg (by omega), drop_e]
    rfl
  · intro i h ih h1 h2
    rw [e_m_keyOf_2, if_pos h, ck_ok _ (by omega), hk i h1 h, kI_s i w h1 h]
    by_cases c : KWk i = w
    · rw [if_pos c, if_pos h, if_pos (by unfold ga_lcmp; rw [c, if_neg (by omega), if_pos rfl]), w32_ok (by omega)]
    · have ne : ¬ pack (KWk i) = pack w := fun z => c (pack_inj (KWk_W i h1 h) hw z)
      rw [if_neg c, if_neg (by unfold ga_lcmp; rw [if_neg ne]; split <;> decide), w32_ok (by omega), ih (by omega) (by omega)]
theorem s_m_keyOf {τ : ga_S} {d : Nat} (hd : 1 ≤ d) (hk : rKeys τ) {w : List Int} (hw : isW w) : c_m_keyOf d τ (pack w) = some (if kI KW w < 55 then 100 + kI KW w else 3, τ) := by
  obtain ⟨d, rfl⟩ : ∃ e, d = e + 1 := ⟨d - 1, by omega⟩
  rw [e_m_keyOf, s_m_keyOf_2 d hk hw 0 (by omega) (by omega)]
  simp
def KPl : List Int := [0, 2, 5, 9, 14, 17, 21, 25, 28, 31, 34, 37, 40, 44, 48, 51, 54, 58, 65, 70, 77, 83, 91, 95, 103, 109, 114, 123, 130, 139, 144, 152, 157, 165, 176, 179, 190, 193, 198, 205, 213, 219, 225, 230, 234, 238, 243, 252, 261, 266, 270, 275, 280, 285, 290, 293]
def KP (k : Int) : Int := KPl.getD k.toNat 0
def KPck (k : Nat) : Bool := decide (0 ≤ KP k) && decide (KP k + 1 < am_len 29) && decide (am_idx 29 32 (KP k + 1) = KP (k + 1)) && decide (KP (k + 1) - KP k - 1 = ((KWk k).length : Int)) && decide (KP k < 400) && decide (KP (k + 1) < 400) && (List.range (KWk k).length).all (fun i => decide (am_chr 29 (KP k + 1 + i) = (KWk k).getD i 0) && decide (KP k + 1 + i < am_len 29))
theorem KPck_ok : (List.range 55).all KPck = true := by decide +kernel
theorem KP_end : ¬ KP 55 + 1 < am_len 29 := by decide +kernel
theorem KP55 : 0 ≤ KP 55 ∧ KP 55 < 400 := by decide +kernel
theorem KP_at (k : Int) (h0 : 0 ≤ k) (h : k < 55) : 0 ≤ KP k ∧ KP k + 1 < am_len 29 ∧ am_idx 29 32 (KP k + 1) = KP (k + 1) ∧ KP (k + 1) - KP k - 1 = ((KWk k).length : Int) ∧ KP k < 400 ∧ KP (k + 1) < 400 ∧ ∀ i : Int, 0 ≤ i → i < ((KWk k).length : Int) → am_chr 29 (KP k + 1 + i) = (KWk k).getD i.toNat 0 ∧ KP k + 1 + i < am_len 29 := by
  have a := List.all_eq_true.mp KPck_ok k.toNat (List.mem_range.mpr (by omega))
  have ek : ((k.toNat : Nat) : Int) = k := by omega
  unfold KPck at a
  rw [ek] at a
  simp only [Bool.and_eq_true, decide_eq_true_eq, List.all_eq_true, List.mem_range] at a
  obtain ⟨⟨⟨⟨⟨⟨a1, a2⟩, a3⟩, a4⟩, a5⟩, a6⟩, a7⟩ := a
  refine ⟨a1, a2, a3, a4, a5, a6, fun i hi hi2 => ?_⟩
  have b := a7 i.toNat (by omega)
  rw [show ((i.toNat : Nat) : Int) = i by omega] at b
  exact b
theorem wdB_get {B : Int → Int} {p n i : Int} (h0 : 0 ≤ i) (h : i < n) : (wdB B p n).getD i.toNat 0 = lowB (B (p + i)) := by
  have aux : ∀ a : Int, 0 ≤ a → ∀ j : Nat, (a : Int) + j < n → ((rg a n).map (fun i => lowB (B (p + i)))).getD j 0 = lowB (B (p + (a + j))) := by
    intro a ha j
    induction j generalizing a with
    | zero =>
      intro h
      rw [rg_s (by omega)]
      simp
    | succ j ih =>
      intro h
      rw [rg_s (by omega)]
      have := ih (a + 1) (by omega) (by omega)
      simp only [List.map_cons, List.getD_cons_succ]
      rw [this]
      congr 2
      push_cast
      omega
  have := aux 0 (by omega) i.toNat (by omega)
  unfold wdB
  rw [this]
  congr 2
  omega
/-- the component's tokens of all sorts -/
def rAll (σ : ga_S) (v : Int) : Prop := ∀ k, 0 ≤ k → k < 64 → σ fT_all v k = k
theorem s_t_word_51 {σ : ga_S} {d : Nat} (hd : 1 ≤ d) {v : Int} (hv : 0 ≤ v) (hs : σ fT_size v 0 ≤ 5000) (hA : rAll σ v) {p n k : Int} (hp : 0 ≤ p) (hpn : p + n ≤ σ fT_size v 0) (hk0 : 0 ≤ k) (hk : k < 55) (hn : n = ((KWk k).length : Int)) : ∀ i, 0 ≤ i → i ≤ n →
    ((∀ j, i ≤ j → j < n → lowB (σ fT_bytes v (p + j)) = (KWk k).getD j.toNat 0) → t_word_51 d σ v p n k (KP k) (KP (k + 1)) 1 i = some (9 + k, σ)) ∧
    (¬ (∀ j, i ≤ j → j < n → lowB (σ fT_bytes v (p + j)) = (KWk k).getD j.toNat 0) → t_word_51 d σ v p n k (KP k) (KP (k + 1)) 1 i = t_word_5 d σ v p n (k + 1) (KP (k + 1))) := by
  have K := KP_at k hk0 hk
  refine rg_ind (n := n) ?_ ?_
  · intro i h h0 h1
    refine ⟨fun _ => ?_, fun z => absurd (fun j a b => by omega) z⟩
    rw [e_t_word_51, if_neg (by omega), e_t_word_98, if_neg (by decide), nn_ok _ hv, s_p_ord hd _ _ (by omega)]; simp only [Option.bind_some]; rw [nn_ok _ hv, w32_ok (by omega), ck_ok _ (by omega), hA _ (by omega) (by omega)]
  · intro i h ih h0 h1
    have ih := ih (by omega) (by omega)
    have C := K.2.2.2.2.2.2 i h0 (by omega)
    rw [e_t_word_51, if_pos h, if_neg (by decide), nn_ok _ hv, w32_ok (by omega), s_t_low hd hv hs (by omega)]; simp only [Option.bind_some]; rw [if_pos (by omega), w32_ok (x := KP k + 1) (by omega), w32_ok (x := KP k + 1 + i) (by omega), s_p_chr hd _ _ _ ⟨by omega, C.2⟩]; simp only [Option.bind_some]; rw [C.1]
    by_cases c : lowB (σ fT_bytes v (p + i)) = (KWk k).getD i.toNat 0
    · rw [if_pos c, e_t_word_90, w32_ok (by omega)]
      refine ⟨fun z => ih.1 (fun j a b => z j (by omega) b), fun z => ih.2 (fun y => z (fun j a b => ?_))⟩
      by_cases e : j = i
      · rw [e]; exact c
      · exact y j (by omega) b
    · rw [if_neg c, e_t_word_90, w32_ok (by omega)]
      refine ⟨fun z => absurd (z i (by omega) h) c, fun _ => ?_⟩
      rw [e_t_word_51]
      by_cases e : i + 1 < n
      · rw [if_pos e, if_pos (by decide), e_t_word_98, if_pos (by decide), w32_ok (by omega)]
      · rw [if_neg e, e_t_word_98, if_pos (by decide), w32_ok (by omega)]
theorem list_ext0 {a b : List Int} (hl : a.length = b.length) (h : ∀ i : Nat, i < a.length → a.getD i 0 = b.getD i 0) : a = b := by
  apply List.ext_getElem hl
  intro i h1 h2
  have := h i h1
  rw [List.getD_eq_getElem?_getD, List.getD_eq_getElem?_getD, List.getElem?_eq_getElem h1, List.getElem?_eq_getElem h2] at this
  simpa using this
theorem s_t_word_5 {σ : ga_S} {d : Nat} (hd : 1 ≤ d) {v : Int} (hv : 0 ≤ v) (hs : σ fT_size v 0 ≤ 5000) (hA : rAll σ v) {p n : Int} (hp : 0 ≤ p) (hn0 : 0 ≤ n) (hpn : p + n ≤ σ fT_size v 0) : ∀ i, 0 ≤ i → i ≤ 55 → t_word_5 d σ v p n i (KP i) = some (if i + kI (KW.drop i.toNat) (wdB (σ fT_bytes v) p n) < 55 then 9 + (i + kI (KW.drop i.toNat) (wdB (σ fT_bytes v) p n)) else 0, σ) := by
  refine rg_ind (n := 55) ?_ ?_
  · intro i h h1 h2
    have e : i = 55 := by omega
    subst e
    have := KP55
    rw [e_t_word_5, s_p_len hd]; simp only [Option.bind_some]; rw [w32_ok (by omega), if_neg KP_end, drop_e]
    rfl
  · intro i h ih h1 h2
    have K := KP_at i h1 h
    have hlen := wdB_len (B := σ fT_bytes v) (p := p) hn0
    rw [e_t_word_5, s_p_len hd]; simp only [Option.bind_some]; rw [w32_ok (by omega), if_pos K.2.1, s_p_idx hd _ _ _ _ ⟨by omega, by omega, by omega⟩]; simp only [Option.bind_some]; rw [K.2.2.1, w32_ok (x := KP (i + 1) - KP i) (by omega), w32_ok (by omega), kI_s i _ h1 h]
    have nx : t_word_5 d σ v p n (w32 (i + 1)) (KP (i + 1)) = some (if i + 1 + kI (KW.drop (i + 1).toNat) (wdB (σ fT_bytes v) p n) < 55 then 9 + (i + 1 + kI (KW.drop (i + 1).toNat) (wdB (σ fT_bytes v) p n)) else 0, σ) := by
      rw [w32_ok (by omega), ih (by omega) (by omega)]
    by_cases c : KP (i + 1) - KP i - 1 = n
    · have hnk : n = ((KWk i).length : Int) := by omega
      rw [if_pos c, e_t_word_46]
      have L := s_t_word_51 hd hv hs hA hp hpn h1 h hnk 0 (by omega) hn0
      by_cases e : ∀ j, 0 ≤ j → j < n → lowB (σ fT_bytes v (p + j)) = (KWk i).getD j.toNat 0
      · have eq : KWk i = wdB (σ fT_bytes v) p n := by
          apply list_ext0
          · omega
          · intro j hj
            have := e j (by omega) (by omega)
            rw [show ((j : Int)).toNat = j by omega] at this
            have g := wdB_get (B := σ fT_bytes v) (p := p) (n := n) (i := j) (by omega) (by omega)
            rw [show ((j : Int)).toNat = j by omega] at g
            rw [g, this]
        rw [L.1 e, if_pos eq, if_pos (by omega)]
      · have neq : ¬ KWk i = wdB (σ fT_bytes v) p n := by
          intro eq
          apply e
          intro j a b
          rw [eq, wdB_get a b]
        rw [L.2 e, if_neg neq, ih (by omega) (by omega)]
    · have neq : ¬ KWk i = wdB (σ fT_bytes v) p n := by
        intro eq
        apply c
        rw [K.2.2.2.1, eq, hlen]
      rw [if_neg c, e_t_word_46, if_neg neq, e_t_word_51]
      by_cases e : (0 : Int) < n
      · rw [if_pos e, if_pos (by decide), e_t_word_98, if_pos (by decide), nx]
      · rw [if_neg e, e_t_word_98, if_pos (by decide), nx]
theorem s_t_word {σ : ga_S} {d : Nat} (hd : 2 ≤ d) {v : Int} (hv : 0 ≤ v) (hs : σ fT_size v 0 ≤ 5000) (hA : rAll σ v) {p n : Int} (hp : 0 ≤ p) (hn0 : 0 ≤ n) (hpn : p + n ≤ σ fT_size v 0) : c_t_word d σ v p n = some (wKey (wdB (σ fT_bytes v) p n), σ) := by
  obtain ⟨d, rfl⟩ : ∃ e, d = e + 1 := ⟨d - 1, by omega⟩
  have e := s_t_word_5 (σ := σ) (d := d) (by omega) hv hs hA hp hn0 hpn 0 (by omega) (by omega)
  have e0 : KP 0 = 0 := by decide
  rw [e0] at e
  rw [e_t_word, e]
  unfold wKey
  simp

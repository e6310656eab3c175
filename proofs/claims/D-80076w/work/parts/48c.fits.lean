/-! commands against the words said, component -/
section
variable {σ τ : ga_S} {B : Int → Int} {N g : Int}
theorem rgl {α : Type} (f : Int → α) (z : α) (w : List α) {a b : Int} (em : b = a + (w.length : Int)) (h : ∀ i : Nat, i < w.length → f (a + i) = w.getD i z) : (rg a b).map f = w := by
  have ln : ((rg a b).map f).length = w.length := by
    rw [List.length_map]
    have := rg_len (n := b) a
    rw [if_pos (by omega)] at this
    omega
  refine List.ext_getElem? fun i => ?_
  by_cases hi : i < w.length
  · have h1 := rg_getD f z i a b (by omega)
    have h2 := h i hi
    rw [List.getD_eq_getElem?_getD, List.getElem?_eq_getElem (by omega)] at h1
    rw [List.getD_eq_getElem?_getD, List.getElem?_eq_getElem hi] at h2
    rw [List.getElem?_eq_getElem (by omega), List.getElem?_eq_getElem hi]
    exact congrArg some (h1.trans h2)
  · rw [List.getElem?_eq_none (by omega), List.getElem?_eq_none (by omega)]
/-- word k of a command, its letters -/
def cmL (σ : ga_S) (c k : Int) : List Int := (rg 0 (σ fW_commandSize c k)).map (fun i => σ fW_commandLetters 0 (σ fW_commandFrom c k + i))
def atW (slot m k : Int) : Int := if slot ≠ -1 ∧ slot < k then k - 1 + m else k
def fitP (σ : ga_S) (B : Int → Int) (N c m : Int) : Prop := N = (if σ fW_commandSlots 0 c = -1 then σ fW_commandWords 0 c else σ fW_commandWords 0 c - 1 + m) ∧ ∀ k, 0 ≤ k → k < σ fW_commandWords 0 c → k ≠ σ fW_commandSlots 0 c → vW σ B (atW (σ fW_commandSlots 0 c) m k) = cmL σ c k
theorem cwR_L {c k : Int} (h : cwR σ τ c k) (hk : k ≠ σ fW_commandSlots 0 c) : isW (cmL σ c k) ∧ cmL σ c k ≠ [] ∧ (cmL σ c k).length ≤ 12 ∧ τ fM_commandWord 0 (8 * c + k) = pack (cmL σ c k) ∧ 0 ≤ σ fW_commandFrom c k ∧ 0 ≤ σ fW_commandSize c k ∧ σ fW_commandFrom c k + σ fW_commandSize c k ≤ σ fW_commandUsed 0 0 := by
  rcases h with h | ⟨_, w, w1, w2, w3, w4, w5, w6, w7, w8⟩
  · exact absurd h.1 hk
  · have e : cmL σ c k = w := by
      refine rgl _ 0 w (by omega) (fun i hi => ?_)
      have := w8 (i : Int) (by omega) (by omega)
      rw [show ((i : Int)).toNat = i by omega] at this
      show σ fW_commandLetters 0 (σ fW_commandFrom c k + (0 + (i : Int))) = _
      rw [show (0 : Int) + (i : Int) = i by omega]; exact this
    rw [e]
    exact ⟨w1, w2, w3, w4, w6, by omega, by omega⟩
theorem k_fits_53 (S : CS σ B N) (eB : σ fX_tape 0 = B) (hb : ∀ i, -128 ≤ B i ∧ B i < 128) {c m n slot : Int} (hc : 0 ≤ c ∧ c < 20) (hn : n ≤ 8) (hm : 0 ≤ m ∧ m ≤ 50) (hs : -1 ≤ slot ∧ slot < n) (en : N = if slot = -1 then n else n - 1 + m) (hw : ∀ k, 0 ≤ k → k < n → k ≠ slot → 0 ≤ σ fW_commandFrom c k ∧ 0 ≤ σ fW_commandSize c k ∧ σ fW_commandFrom c k + σ fW_commandSize c k ≤ 3000) {d : Nat} (hd : 2 ≤ d) : ∀ k, 0 ≤ k → k ≤ n → ∃ b, x_fits_53 d σ c m n slot 1 k = some (b2i b, σ) ∧ (b = true ↔ ∀ j, k ≤ j → j < n → j ≠ slot → vW σ B (atW slot m j) = cmL σ c j) := by
  refine rg_ind (n := n) (fun k h k0 k1 => ⟨true, ?_, fun _ j j0 j1 => by omega, fun _ => rfl⟩) (fun k h ih k0 k1 => ?_)
  · rw [e_x_fits_53, if_neg (by omega), z1_ok _ (Or.inr rfl)]; rfl
  · obtain ⟨b, b1, b2⟩ := ih (by omega) (by omega)
    by_cases ks : k = slot
    · refine ⟨b, ?_, fun hb j j0 j1 j2 => b2.mp hb j (by omega) j1 j2, fun hh => b2.mpr (fun j j0 j1 j2 => hh j (by omega) j1 j2)⟩
      rw [e_x_fits_53, if_pos h, if_neg (by decide), if_pos ks, e_x_fits_136, w32_ok (by omega)]; exact b1
    · have st : x_fits_53 d σ c m n slot 1 k = x_fits_95 d σ c m n slot k (atW slot m k) ∧ 0 ≤ atW slot m k ∧ atW slot m k < N := by
        rw [e_x_fits_53, if_pos h, if_neg (by decide), if_neg ks]
        unfold atW
        by_cases s1 : slot = -1
        · rw [if_pos s1, if_neg (fun z => z.1 s1), e_x_fits_93, en, if_pos s1]
          exact ⟨rfl, k0, h⟩
        · rw [if_neg s1, en, if_neg s1]
          by_cases s2 : slot < k
          · rw [if_pos s2, if_pos ⟨s1, s2⟩, w32_ok (x := k - 1) (by omega), w32_ok (by omega)]
            exact ⟨rfl, by omega, by omega⟩
          · rw [if_neg s2, if_neg (fun z => s2 z.2), e_x_fits_93]
            exact ⟨rfl, by omega, by omega⟩
      have w := hw k k0 h ks
      obtain ⟨q, q1, q2⟩ := k_isWC S (k := atW slot m k) st.2 eB hb w.1 w.2.1 w.2.2 hd
      have st2 : x_fits_53 d σ c m n slot 1 k = x_fits_53 d σ c m n slot (b2i q) (k + 1) := by
        rw [st.1, e_x_fits_95, ck_ok _ hc, nn_ok _ hc.1, ck_ok _ (by omega), ck_ok _ hc, nn_ok _ hc.1, ck_ok _ (by omega), q1, Option.bind_some]
        show x_fits_136 d σ c m n slot (b2i q) k = _
        rw [e_x_fits_136, w32_ok (by omega)]
      rw [st2]
      cases q with
      | true =>
        refine ⟨b, b1, fun hb j j0 j1 j2 => ?_, fun hh => b2.mpr (fun j j0 j1 j2 => hh j (by omega) j1 j2)⟩
        by_cases jk : j = k
        · rw [jk]; exact q2.mp rfl
        · exact b2.mp hb j (by omega) j1 j2
      | false =>
        refine ⟨false, ?_, fun hb => (by cases hb), fun hh => ?_⟩
        · show x_fits_53 d σ c m n slot 0 (k + 1) = some (0, σ)
          rw [e_x_fits_53]
          by_cases c2 : k + 1 < n
          · rw [if_pos c2, if_pos rfl, z1_ok _ (Or.inl rfl)]
          · rw [if_neg c2, z1_ok _ (Or.inl rfl)]
        · have := q2.mpr (hh k (Int.le_refl _) h ks)
          cases this
theorem k_fits (S : CS σ B N) (eB : σ fX_tape 0 = B) (hb : ∀ i, -128 ≤ B i ∧ B i < 128) {c m : Int} (C : CW σ τ) (hc : 0 ≤ c ∧ c < σ fW_commands 0 0) (hm : 0 ≤ m ∧ m ≤ 40) {d : Nat} (hd : 3 ≤ d) : ∃ b, c_x_fits d σ c m = some (b2i b, σ) ∧ (b = true ↔ fitP σ B N c m) := by
  obtain ⟨d, rfl⟩ : ∃ e, d = e + 1 := ⟨d - 1, by omega⟩
  have c20 := C.1.2.2
  have cw := C.2.2 c hc.1 hc.2
  have n8 := cw.2.1.2
  have sl : -1 ≤ σ fW_commandSlots 0 c ∧ σ fW_commandSlots 0 c < σ fW_commandWords 0 c := by
    rcases cw.2.2.2.1 with z | z | z <;> omega
  have u := C.2.1
  have st : ∀ r, (if N = (if σ fW_commandSlots 0 c = -1 then σ fW_commandWords 0 c else σ fW_commandWords 0 c - 1 + m) then x_fits_53 d σ c m (σ fW_commandWords 0 c) (σ fW_commandSlots 0 c) 1 0 else x_fits_53 d σ c m (σ fW_commandWords 0 c) (σ fW_commandSlots 0 c) 0 0) = r → c_x_fits (d + 1) σ c m = r := by
    intro r hr
    rw [e_x_fits, ck_ok _ (by omega), ck_ok _ (by omega), S.1]
    by_cases s : σ fW_commandSlots 0 c = -1
    · rw [if_pos s, e_x_fits_40, e_x_fits_48, e_x_fits_48]
      rw [if_pos s] at hr; exact hr
    · rw [if_neg s, e_x_fits_40, e_x_fits_48, e_x_fits_48, w32_ok (x := σ fW_commandWords 0 c - 1) (by omega), w32_ok (by omega)]
      rw [if_neg s] at hr; exact hr
  by_cases en : N = (if σ fW_commandSlots 0 c = -1 then σ fW_commandWords 0 c else σ fW_commandWords 0 c - 1 + m)
  · obtain ⟨b, b1, b2⟩ := k_fits_53 S eB hb (c := c) (m := m) (n := σ fW_commandWords 0 c) (slot := σ fW_commandSlots 0 c) (by omega) (by omega) (by omega) sl en (fun k k0 k1 k2 => by
      have q := cwR_L (cw.2.2.2.2 k k0 k1) k2
      exact ⟨q.2.2.2.2.1, q.2.2.2.2.2.1, by have := q.2.2.2.2.2.2; omega⟩) (d := d) (by omega) 0 (Int.le_refl _) (by omega)
    exact ⟨b, st _ ((if_pos en).trans b1), fun h => ⟨en, fun k k0 k1 k2 => b2.mp h k k0 k1 k2⟩, fun h => b2.mpr (fun j j0 j1 j2 => h.2 j j0 j1 j2)⟩
  · refine ⟨false, st _ ((if_neg en).trans ?_), fun h => (by cases h), fun h => absurd h.1 en⟩
    rw [e_x_fits_53, if_pos (by omega), if_pos rfl, z1_ok _ (Or.inl rfl)]; rfl
/-- the words said from a to b -/
def vWs (σ : ga_S) (B : Int → Int) (a b : Int) : List (List Int) := (rg a b).map (vW σ B)
/-- i stands in the slot of command c, and the command fits -/
def PF (σ : ga_S) (B : Int → Int) (N c i : Int) : Prop := (0 ≤ i ∧ i < (if σ fW_commandKinds 0 c = -2 then 6 else σ fW_objects 0 0)) ∧ (σ fW_commandKinds 0 c = -2 ∨ isB (σ fW_parents 0) (σ fW_kindOf 0 i) (σ fW_commandKinds 0 c) = true) ∧ ∃ k m, live σ k ∧ σ fD_sorts 0 k = (if σ fW_commandKinds 0 c = -2 then 9 else 2) ∧ σ fD_numbers 0 k = i ∧ (1 ≤ m ∧ m ≤ 3) ∧ σ fW_commandSlots 0 c + m ≤ N ∧ wsW (vWs σ B (σ fW_commandSlots 0 c) (σ fW_commandSlots 0 c + m)) ∧ ent σ k = jn (vWs σ B (σ fW_commandSlots 0 c) (σ fW_commandSlots 0 c + m)) ∧ fitP σ B N c m
theorem W_13 (R : RD σ τ) {k : Int} (lv : live σ k) {W : List (List Int)} (hW : wsW W) (e : ent σ k = jn W) : 1 ≤ W.length ∧ W.length ≤ 3 := by
  obtain ⟨k', _, _, V, v1, v2, v3, _, _, v6, _⟩ := R.2.2.2.2.1 k lv
  rcases v6 with ⟨_, y⟩ | ⟨_, y1, y2⟩
  · have : W = V := jn_inj _ _ (wsW_1 hW) (wsW_1 v1) (by rw [← e, y])
    rw [this]; exact ⟨v2, v3⟩
  · exfalso
    have v0 : V ≠ [] := fun z => by rw [z] at y1; exact absurd y1 (by decide)
    exact jn_no13 hW V v1 y1 (by rw [← jn_addS V v0, ← y2, e])
theorem vWs_len {a m : Int} (h : 0 ≤ m) : ((vWs σ B a (a + m)).length : Int) = m := by
  unfold vWs
  rw [List.length_map]
  have := rg_len (n := a + m) a
  rw [if_pos (by omega)] at this
  omega
theorem vWs_g {a m : Int} {j : Nat} (h : (j : Int) < m) : (vWs σ B a (a + m)).getD j [] = vW σ B (a + j) := rg_getD (vW σ B) [] j a (a + m) (by omega)
theorem k_named (S : CS σ B N) (eB : σ fX_tape 0 = B) (hb : ∀ i, -128 ≤ B i ∧ B i < 128) (R : RD σ τ) {k slot : Int} (lv : live σ k) {W : List (List Int)} (hW : wsW W) (e : ent σ k = jn W) (hs : 0 ≤ slot ∧ slot < 50) {d : Nat} (hd : 3 ≤ d) : (c_x_named d σ k slot = some (-1, σ) ∧ ∀ m, 0 ≤ m → slot + m ≤ N → vWs σ B slot (slot + m) ≠ W) ∨ (c_x_named d σ k slot = some ((W.length : Int), σ) ∧ slot + W.length ≤ N ∧ vWs σ B slot (slot + W.length) = W) := by
  obtain ⟨d, rfl⟩ : ∃ e, d = e + 1 := ⟨d - 1, by omega⟩
  have wl := W_13 R lv hW e
  have w := R.1.2.2.2.2 k lv.1 lv.2.1
  have u1 := R.1.2.2.2.1
  have u2 := R.1.2.1
  have u3 := lv.1
  have u4 := lv.2.1
  have Wne : W ≠ [] := fun z => by rw [z] at wl; simp at wl
  have ln : ((jn W).length : Int) = σ fD_sizes 0 k := by
    rw [← e]; unfold ent
    rw [List.length_map]
    have := rg_len (n := σ fD_sizes 0 k) 0
    rw [if_pos (by omega)] at this
    omega
  have r : c_x_named (d + 1) σ k slot = some (nmV σ B N slot 0 W, σ) := by
    rw [e_x_named, ck_ok _ (by omega), ck_ok _ (by omega), w32_ok (by omega)]
    refine k_named_l S eB hb hs (by omega) (by omega) W 0 (σ fD_froms 0 k) (Int.le_refl _) (by omega) w.1 (by omega) (fun x hx => ⟨fun ch hch => ?_, (hW x hx).2.1⟩) (fun z => absurd z Wne) (fun _ => ⟨by omega, fun i hi => ?_⟩)
    · have := (hW x hx).1 ch hch; omega
    · have h1 := rg_getD (fun i => σ fD_letters 0 (σ fD_froms 0 k + i)) 0 i 0 (σ fD_sizes 0 k) (by omega)
      have h2 : (rg 0 (σ fD_sizes 0 k)).map (fun i => σ fD_letters 0 (σ fD_froms 0 k + i)) = jn W := e
      rw [h2] at h1
      rw [h1, show (0 : Int) + (i : Int) = i by omega]
  rcases nmV_r (σ := σ) (B := B) (N := N) (slot := slot) W 0 (Int.le_refl _) (Or.inl Wne) with ⟨a1, a2⟩ | ⟨a1, a2, a3⟩
  · left
    refine ⟨by rw [r, a1], fun m m0 m1 z => a2 ?_⟩
    have lm : (W.length : Int) = m := by rw [← z]; exact vWs_len m0
    refine ⟨by omega, fun j hj => ?_⟩
    rw [show slot + 0 + (j : Int) = slot + j by omega, ← z, vWs_g (by omega)]
  · right
    refine ⟨by rw [r, a1]; rw [show (0 : Int) + (W.length : Int) = W.length by omega], by omega, ?_⟩
    refine rgl _ [] W rfl (fun i hi => ?_)
    have := a3 i hi
    rw [show slot + 0 + (i : Int) = slot + i by omega] at this
    exact this
theorem k_slot1 (X : SX σ τ g) (S : CS σ B N) (eB : σ fX_tape 0 = B) (hb : ∀ i, -128 ≤ B i ∧ B i < 128) {c i v2 v3 : Int} (hc : 0 ≤ c ∧ c < σ fW_commands 0 0) (hs : 0 ≤ σ fW_commandSlots 0 c) (hv : v2 = if σ fW_commandKinds 0 c = -2 then 1 else 0) (hi : 0 ≤ i ∧ i < (if σ fW_commandKinds 0 c = -2 then 6 else σ fW_objects 0 0)) (hk : σ fW_commandKinds 0 c = -2 ∨ isB (σ fW_parents 0) (σ fW_kindOf 0 i) (σ fW_commandKinds 0 c) = true) {d : Nat} (hd : 3 ≤ d) : (PF σ B N c i ∧ x_slot_71 d σ c v2 v3 i = some (i, σ)) ∨ (¬ PF σ B N c i ∧ x_slot_71 d σ c v2 v3 i = x_slot_40 d σ c v2 v3 (i + 1)) := by
  have C := X.2.2.2.2.2.2.1
  have R := X.2.2.1.1
  have Y := X.2.2.2.2.2.2.2
  have o24 := X.1.2.1.2.1
  have c20 := C.1.2.2
  have cw := C.2.2 c hc.1 hc.2
  have n8 := cw.2.1.2
  have sl : σ fW_commandSlots 0 c < σ fW_commandWords 0 c := by
    rcases cw.2.2.2.1 with z | z | z <;> omega
  have i24 : i < 24 := by
    have := hi.2
    split at this <;> omega
  obtain ⟨s, es⟩ : ∃ s : Int, s = if σ fW_commandKinds 0 c = -2 then 9 else 2 := ⟨_, rfl⟩
  have T : tld σ s i := by
    by_cases z : σ fW_commandKinds 0 c = -2
    · rw [es, if_pos z]; rw [if_pos z] at hi; exact Y.2.2.2 i hi.1 hi.2
    · rw [es, if_neg z]; rw [if_neg z] at hi; exact Y.2.2.1.1 i hi.1 hi.2
  obtain ⟨k, lv, k1, k2, W, hW, eW⟩ := T
  have en : c_d_entry d σ s i = some (k, σ) := by
    rw [s_d_entry (by omega) R.1.2.1]
    rcases enI_r (σ := σ) (s := s) (n := i) with z | z
    · exact absurd ⟨k1, k2⟩ (enI_n z k lv.1 lv.2.1)
    · have : enI σ s i 0 = k := R.2.2.2.2.2.2.1 _ _ ⟨z.1, z.2.1, by rw [z.2.2.1, ← k1]; exact lv.2.2⟩ lv (by rw [z.2.2.1, k1]) (by rw [z.2.2.2, k2])
      rw [this]
  have st : x_slot_71 d σ c v2 v3 i = x_slot_89 d σ c v2 v3 i s := by
    rw [e_x_slot_71]
    by_cases z : σ fW_commandKinds 0 c = -2
    · rw [es, if_pos z, if_neg (by rw [hv, if_pos z]; decide)]
    · rw [es, if_neg z, if_pos (by rw [hv, if_neg z])]
  have uq : PF σ B N c i → fitP σ B N c W.length ∧ ∃ m, 0 ≤ m ∧ σ fW_commandSlots 0 c + m ≤ N ∧ vWs σ B (σ fW_commandSlots 0 c) (σ fW_commandSlots 0 c + m) = W := by
    rintro ⟨_, _, k', m, p1, p2, p3, p4, p5, p6, p7, p8⟩
    have kk : k' = k := R.2.2.2.2.2.2.1 _ _ p1 lv (by rw [p2, k1, es]) (by rw [p3, k2])
    rw [kk, eW] at p7
    have ev := jn_inj _ _ (wsW_1 hW) (wsW_1 p6) p7
    have lm : (W.length : Int) = m := by rw [ev]; exact vWs_len (by omega)
    rw [lm]
    exact ⟨p8, m, by omega, p5, ev.symm⟩
  have wl := W_13 R lv hW eW
  rcases k_named S eB hb R lv hW eW (slot := σ fW_commandSlots 0 c) (by omega) hd with ⟨n1, n2⟩ | ⟨n1, n2, n3⟩
  · right
    refine ⟨fun P => ?_, ?_⟩
    · obtain ⟨_, m, m0, m1, m2⟩ := uq P
      exact n2 m m0 m1 m2
    · rw [st, e_x_slot_89, en, Option.bind_some, ck_ok _ (by omega)]
      show ((c_x_named d σ k (σ fW_commandSlots 0 c)).bind fun q3 => if q3.1 = -1 then x_slot_127 d q3.2 c v2 v3 i else (c_x_fits d q3.2 c q3.1).bind fun q4 => if q4.1 = 0 then x_slot_127 d q4.2 c v2 v3 i else some (i, q4.2)) = _
      rw [n1, Option.bind_some]
      refine (if_pos rfl).trans ?_
      rw [e_x_slot_127, w32_ok (by omega)]
  · obtain ⟨b, b1, b2⟩ := k_fits S eB hb C hc (m := (W.length : Int)) (by omega) hd
    have st2 : x_slot_71 d σ c v2 v3 i = if b2i b = 0 then x_slot_40 d σ c v2 v3 (i + 1) else some (i, σ) := by
      rw [st, e_x_slot_89, en, Option.bind_some, ck_ok _ (by omega)]
      show ((c_x_named d σ k (σ fW_commandSlots 0 c)).bind fun q3 => if q3.1 = -1 then x_slot_127 d q3.2 c v2 v3 i else (c_x_fits d q3.2 c q3.1).bind fun q4 => if q4.1 = 0 then x_slot_127 d q4.2 c v2 v3 i else some (i, q4.2)) = _
      rw [n1, Option.bind_some]
      refine (if_neg (show ¬ (W.length : Int) = -1 by omega)).trans ?_
      show ((c_x_fits d σ c (W.length : Int)).bind fun q4 => if q4.1 = 0 then x_slot_127 d q4.2 c v2 v3 i else some (i, q4.2)) = _
      rw [b1, Option.bind_some]
      show (if b2i b = 0 then x_slot_127 d σ c v2 v3 i else some (i, σ)) = _
      rw [e_x_slot_127, w32_ok (by omega)]
    cases b with
    | true =>
      left
      refine ⟨⟨hi, hk, k, W.length, lv, by rw [k1, es], k2, by omega, n2, by rw [n3]; exact hW, by rw [n3]; exact eW, b2.mp rfl⟩, ?_⟩
      rw [st2]; exact if_neg b2i_n
    | false =>
      right
      refine ⟨fun P => ?_, by rw [st2]; exact if_pos b2i_f⟩
      have := b2.mpr (uq P).1
      cases this
theorem k_slot (X : SX σ τ g) (S : CS σ B N) (eB : σ fX_tape 0 = B) (hb : ∀ i, -128 ≤ B i ∧ B i < 128) {c : Int} (hc : 0 ≤ c ∧ c < σ fW_commands 0 0) (hs : 0 ≤ σ fW_commandSlots 0 c) {d : Nat} (hd : 4 ≤ d) : ∃ o, c_x_slot d σ c = some (o, σ) ∧ ((o = -1 ∧ ∀ i, ¬ PF σ B N c i) ∨ (0 ≤ o ∧ PF σ B N c o)) := by
  obtain ⟨d, rfl⟩ : ∃ e, d = e + 1 := ⟨d - 1, by omega⟩
  have C := X.2.2.2.2.2.2.1
  have Wo := X.1.2.1
  have o24 := Wo.2.1
  have c20 := C.1.2.2
  have cw := C.2.2 c hc.1 hc.2
  obtain ⟨v2, hv⟩ : ∃ v : Int, v = if σ fW_commandKinds 0 c = -2 then 1 else 0 := ⟨_, rfl⟩
  obtain ⟨v3, h3⟩ : ∃ v : Int, v = if σ fW_commandKinds 0 c = -2 then 6 else σ fW_objects 0 0 := ⟨_, rfl⟩
  have lp : ∀ i, 0 ≤ i → ∃ o, x_slot_40 d σ c v2 v3 i = some (o, σ) ∧ ((o = -1 ∧ ∀ j, i ≤ j → ¬ PF σ B N c j) ∨ (0 ≤ o ∧ PF σ B N c o)) := by
    refine rg_ind (n := v3) (fun i h h0 => ⟨-1, ?_, Or.inl ⟨rfl, fun j hj P => ?_⟩⟩) (fun i h ih h0 => ?_)
    · rw [e_x_slot_40, if_neg (by omega)]
    · have := P.1.2
      rw [← h3] at this; omega
    · obtain ⟨o, o1, o2⟩ := ih (by omega)
      have no : ¬ PF σ B N c i → x_slot_40 d σ c v2 v3 i = x_slot_40 d σ c v2 v3 (i + 1) → ∃ o, x_slot_40 d σ c v2 v3 i = some (o, σ) ∧ ((o = -1 ∧ ∀ j, i ≤ j → ¬ PF σ B N c j) ∨ (0 ≤ o ∧ PF σ B N c o)) := by
        intro p e
        refine ⟨o, by rw [e]; exact o1, ?_⟩
        rcases o2 with z | z
        · refine Or.inl ⟨z.1, fun j hj => ?_⟩
          by_cases ji : j = i
          · rw [ji]; exact p
          · exact z.2 j (by omega)
        · exact Or.inr z
      have i24 : i < 24 := by
        rw [h3] at h
        split at h <;> omega
      have one := k_slot1 (v2 := v2) (v3 := v3) (i := i) X S eB hb hc hs hv ⟨h0, by rw [← h3]; exact h⟩ (d := d)
      by_cases z : σ fW_commandKinds 0 c = -2
      · have e1 : x_slot_40 d σ c v2 v3 i = x_slot_71 d σ c v2 v3 i := by
          rw [e_x_slot_40, if_pos h, if_neg (by rw [hv, if_pos z]; decide)]
        rcases one (Or.inl z) (by omega) with ⟨p, e⟩ | ⟨p, e⟩
        · exact ⟨i, by rw [e1, e], Or.inr ⟨h0, p⟩⟩
        · exact no p (by rw [e1, e])
      · have hi : i < σ fW_objects 0 0 := by rw [h3, if_neg z] at h; exact h
        have wo := Wo.2.2.2 i h0 hi
        have ik := s_w_isKind X.1.1.1 (d := d) (by omega) (o := i) (σ fW_commandKinds 0 c) ⟨h0, i24⟩ (by omega) wo.2.1
        have e0 : x_slot_40 d σ c v2 v3 i = if b2i (isB (σ fW_parents 0) (σ fW_kindOf 0 i) (σ fW_commandKinds 0 c)) = 0 then x_slot_127 d σ c v2 v3 i else x_slot_71 d σ c v2 v3 i := by
          rw [e_x_slot_40, if_pos h, if_pos (by rw [hv, if_neg z]), ck_ok _ (by omega), ik, Option.bind_some]
        cases b : isB (σ fW_parents 0) (σ fW_kindOf 0 i) (σ fW_commandKinds 0 c) with
        | true =>
          rw [b] at e0
          have e1 : x_slot_40 d σ c v2 v3 i = x_slot_71 d σ c v2 v3 i := e0.trans (if_neg b2i_n)
          rcases one (Or.inr b) (by omega) with ⟨p, e⟩ | ⟨p, e⟩
          · exact ⟨i, by rw [e1, e], Or.inr ⟨h0, p⟩⟩
          · exact no p (by rw [e1, e])
        | false =>
          rw [b] at e0
          refine no (fun P => ?_) (e0.trans ((if_pos b2i_f).trans ?_))
          · rcases P.2.1 with q | q
            · exact z q
            · rw [b] at q; cases q
          · rw [e_x_slot_127, w32_ok (by omega)]
  obtain ⟨o, o1, o2⟩ := lp 0 (Int.le_refl _)
  refine ⟨o, ?_, ?_⟩
  · rw [e_x_slot, ck_ok _ (by omega)]
    by_cases z : σ fW_commandKinds 0 c = -2
    · rw [if_pos z, e_x_slot_19, if_neg (by decide), e_x_slot_36]
      rw [hv, h3, if_pos z, if_pos z] at o1; exact o1
    · rw [if_neg z, e_x_slot_19, if_pos rfl, e_x_slot_36]
      rw [hv, h3, if_neg z, if_neg z] at o1; exact o1
  · rcases o2 with z | z
    · exact Or.inl ⟨z.1, fun i P => z.2 i P.1.1 P⟩
    · exact Or.inr z
end

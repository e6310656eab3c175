/-! members of the library: copies of bytes -/
theorem jw_b : Cond.arrayClass .byte ∈ ga_gw := am_at_c (k := 1) (i := 76) rfl rfl
theorem jm_re {ty : FieldType} {t N : Nat} {f : Nat → Value} {A B : Nat → Prop} {U : State} (h : va_T ty t N f A U U.heap) (hB : ∀ q : Nat, q < U.heap.size → ¬ B q) : va_T ty t N f B U U.heap := by
  obtain ⟨cell, h1, h2, h3, h4, h5, h6, h7⟩ := h
  exact ⟨cell, h1, h2, h3, h4, h5, h6, hB t (Array.getElem?_eq_some_iff.mp h1).1⟩
def jm_Fa (sz k : Nat) (f : Nat → Int32) (b : Nat) (v : Option Value) (U : State) : Prop := ∃ (q : Nat) (cA : ClassId), v = some (.ref q) ∧ sz ≤ q ∧ ArrOfT U cA .byte ∧ U.heap[q]? = some (vp_cell cA (k, .inl (va_cpy f (fun _ => 0) b 0 k)))
theorem jm_Fa_al {sz k : Nat} {f : Nat → Int32} {b : Nat} : jm_al (jm_Fa sz k f b) := by
  rintro v t U ⟨q, cA, h1, h2, h3, h4⟩ hv hh
  exact ⟨q, cA, h1, h2, arrOfT_moved hv h3, by rw [hh]; exact h4⟩
def jm_D : va_G := (fun _ => 0, fun _ _ => 0)
theorem jm_K0 {U : State} : va_K jm_D [] [] U := ⟨fun c q h => by simp at h, fun k q h => by simp at h⟩
theorem jm_P0 {H : Heap} : va_P jm_D [] [] H := fun k q h => by simp at h
theorem jm_D0 {A : Nat → Prop} : va_D A [] := ⟨fun i j p q h => by simp at h, fun k q h => by simp at h⟩
section
variable {l : Launch} {d n b en sz : Nat} {f : Nat → Int32}
theorem jm_crb (hbe : b < en) (hen : en ≤ n) (hn : n < 2 ^ 31) (h11 : en - b ≤ 12) (hby : ∀ j : Nat, j < n → fits .byte (.int (f j)) = true) :
    jm_Cm l y_crb 2 120 1 12 sz [.ref d, .int (nI b), .int (nI en)] (fun U => va_T .byte d n (fun j => .int (f j)) (fun _ => False) U U.heap) (jm_Fa sz (en - b) f b) := by
  refine jm_ofm g_crb (Nat.le_of_ble_eq_true rfl) (fun p e s m args below meth c ls S hlk hrt hnm hsz hJ hls => ?_)
  have S' := S
  obtain ⟨hx, hb, hml, hown, hts⟩ := S
  have hT := jm_re (B := fun q => s.heap.size ≤ q) hJ (fun q h z => by omega)
  refine lv_iload_n hx hb (k := 1) (by decide +kernel) rfl (lv_at hls 1 rfl) ?_
  refine lv_iload_n hx hb (k := 2) (by decide +kernel) rfl (lv_at hls 2 rfl) ?_
  refine jm_S (vs := [.int (nI b), .int (nI en)]) (rest := []) S' (jm_cln (by omega) (by omega)) g_cln jm_true (fun _ _ _ => trivial) jw_2_138 jw_2_139 dd_cln hls.1 (Nat.le_of_ble_eq_true rfl) (by decide +kernel) ⟨by decide, by decide⟩ ⟨Nat.zero_le _, Nat.zero_le _⟩ ?_
  refine lv_iload_n hx hb (k := 2) (by decide +kernel) rfl (lv_at hls 2 rfl) ?_
  refine lv_iload_n hx hb (k := 1) (by decide +kernel) rfl (lv_at hls 1 rfl) ?_
  refine lv_isub hx hb (by decide +kernel) ?_
  rw [pk_sub (by omega)]
  refine lv_istore_n hx hb (k := 3) (by decide +kernel) rfl hls (by decide) rfl (fun ls1 h1 => ?_)
  refine lv_iload_n hx hb (k := 3) (by decide +kernel) rfl (lv_at h1 0 rfl) ?_
  refine va_newa (D := jm_D) (cl := []) (tys := []) (ws := []) (A := fun q => s.heap.size ≤ q) (H0 := s.heap) (atype := .byte) (ty := .byte) (N' := en - b) (a0 := (en - b, .inl (fun _ => 0))) hx hb (hts _ jw_b) rfl jm_K0 jm_P0 jm_D0 va_S.rf (fun q h => h) (fun cA => rfl) (nI_pos (by omega)) (nI_clamp (by omega)) (by show (en - b) * 1 ≤ _; omega) (Nat.le_refl _) (by show 0 + (en - b) ≤ 12; omega) (by decide +kernel) (fun q cA H1 hK hP hD hS => ?_)
  refine lv_astore hx hb (i := 4) (by decide +kernel) h1 (by decide) rfl (fun ls2 h2 => ?_)
  refine lv_aload_n hx hb (k := 0) (by decide +kernel) rfl (lv_at h2 2 rfl) ?_
  refine lv_iload_n hx hb (k := 1) (by decide +kernel) rfl (lv_at h2 3 rfl) ?_
  refine lv_aload hx hb (i := 4) (by decide +kernel) (lv_at h2 0 rfl) ?_
  refine lv_iconst hx hb (n := 0) (by decide +kernel) rfl ?_
  refine lv_aload_n hx hb (k := 0) (by decide +kernel) rfl (lv_at h2 2 rfl) ?_
  refine jm_alen hx hb hT hS (by decide +kernel) ?_
  refine lv_iload_n hx hb (k := 1) (by decide +kernel) rfl (lv_at h2 3 rfl) ?_
  refine lv_isub hx hb (by decide +kernel) ?_
  rw [show (Int32.ofNat n - nI b) = nI (n - b) from pk_sub (by omega)]
  refine lv_iload_n hx hb (k := 3) (by decide +kernel) rfl (lv_at h2 1 rfl) ?_
  refine va_mmin hx hb (by rw [hml, h2.1]) hown (hts _ jw_2_141) (hts _ jw_2_81) (hts _ jw_1_11) (hts _ jw_2_82) (by decide) (Nat.le_of_ble_eq_true rfl) (Nat.le_refl _) (by show 0 + (en - b) ≤ 12; omega) (by decide +kernel) ?_
  rw [show (if nI (en - b) < nI (n - b) then nI (en - b) else nI (n - b)) = nI (en - b) by
    by_cases h : en = n
    · rw [if_neg (by rw [h]; exact fun z => Int32.lt_irrefl z), h]
    · rw [if_pos (nI_lt (by omega) (by omega))]]
  have hc1 : (nI (en - b)).toNatClampNeg = en - b := nI_clamp (by omega)
  have hc2 : (nI b).toNatClampNeg = b := nI_clamp (by omega)
  have hc3 : (Int32.ofInt 0).toNatClampNeg = 0 := by decide
  refine vk_copyt (n0 := n) (f := f) hx hb (by rw [hml, h2.1]) hown (hts _ jw_2_142) (hts _ jw_2_29) (hts _ jw_2_28) (hts _ jw_1_10) hK hP hD hS hT 0 0 rfl rfl (nI_pos (by omega)) (by decide) (nI_pos (by omega)) (by rw [hc1, hc2]; omega) (by rw [hc1, hc3]; omega) (fun i hi => by rw [hc1] at hi; rw [hc2]; exact hby _ (by omega)) (by decide) (Nat.le_of_ble_eq_true rfl) (by decide +kernel) (fun H2 locs1 hP2 hD2 hS2 => ?_)
  rw [hc1, hc2, hc3] at hP2
  refine lv_aload hx hb (i := 4) (by decide +kernel) (lv_at h2 0 rfl) ?_
  refine W.widen (k := 1) (n := 12) (Nat.le_refl _) (by show 0 + (en - b) ≤ 12; omega) ?_
  refine W.aret hx hb hrt (Or.inr ⟨_, rfl⟩) (Or.inr ⟨_, rfl⟩) (fun t ht hW => ⟨_, rfl, ⟨q, cA, rfl, ?_, ?_, ?_⟩, ?_, ?_⟩) (fun q hq => by rw [← hsz]; exact hS2.2.2 q hq) (by decide +kernel) hlk
  · have := hD2.2 0 _ rfl
    rw [← hsz]
    exact this
  · exact arrOfT_moved hW.alike (hK.2 0 _ rfl).1
  · rw [ht]
    exact hP2 0 _ rfl
  · rw [ht, ← hsz]
    exact hS2.1
  · intro x hx2
    rw [ht]
    exact hS2.2.1 x (by rw [hsz]; exact hx2) (fun z => by omega)
end

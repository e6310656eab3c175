/-! the same heap under another layout, or with more objects -/
theorem ga_cv_E {E E' : ga_E} {cnt : Nat → Nat} {U0 : State} (h : ∀ c n, n < cnt c → E.1 c n = E'.1 c n) {v : ga_V} (hv : ga_vk (am_YS E cnt U0) v) : ga_cv E v = ga_cv E' v := by
  obtain ⟨t, x⟩ := v
  match t, hv with
  | 0, _ => rfl
  | 1, _ => rfl
  | c + 3, hv =>
    obtain ⟨h1, h2, h3⟩ := hv
    have h2' : x < (cnt c : Int) := h2
    show (if x < 0 then Value.null else Value.ref (E.1 c x.toNat)) = (if x < 0 then Value.null else Value.ref (E'.1 c x.toNat))
    by_cases z : x < 0
    · rw [if_pos z, if_pos z]
    · rw [if_neg z, if_neg z, h c x.toNat (by omega)]
theorem ga_vk_E {E E' : ga_E} {cnt cnt' : Nat → Nat} {U0 : State} (hc : ∀ c, cnt c ≤ cnt' c) {v : ga_V} (hv : ga_vk (am_YS E cnt U0) v) : ga_vk (am_YS E' cnt' U0) v := by
  obtain ⟨t, x⟩ := v
  match t, hv with
  | 0, hv => exact hv
  | 1, hv => exact hv
  | c + 3, hv =>
    obtain ⟨h1, h2, h3⟩ := hv
    have h2' : x < (cnt c : Int) := h2
    have := hc c
    exact ⟨h1, by show x < (cnt' c : Int); omega, h3⟩
theorem ga_H1_E {E E' : ga_E} {cnt cnt' : Nat → Nat} {U0 : State} {σ : ga_S} {H : Heap} {c n : Nat} (he : ∀ c n, n < cnt c → E.1 c n = E'.1 c n) (h2 : E.2 = E'.2) (hc : ∀ c, cnt c ≤ cnt' c) (hn : n < cnt c) (h : ga_H1 (am_YS E cnt U0) σ H c n) : ga_H1 (am_YS E' cnt' U0) σ H c n := by
  obtain ⟨h1, h3, h4⟩ := h
  have ea := he c n hn
  refine ⟨fun q hq => ?_, fun hq => ?_, h4⟩
  · obtain ⟨k1, k2⟩ := h1 q hq
    refine ⟨?_, fun k hk => ga_vk_E hc (k2 k hk)⟩
    show ga_tO (E'.1 c n) (E'.2.1 c) q.2.2 (E'.2.2 c) H _
    rw [← ea, ← h2]
    exact ga_tO.to k1 (fun k hk => ga_cv_E he (k2 k hk))
  · obtain ⟨k1, k2⟩ := h3 hq
    refine ⟨?_, fun i hi => ga_vk_E hc (k2 i hi)⟩
    show H[E'.1 c n]? = some (arrV (E'.2.1 c) (am_ac c).2.1.toNat _)
    rw [← ea, ← h2]
    refine k1.trans ?_
    congr 1
    refine arrV_ext fun i hi => ga_cv_E he (k2 i ?_)
    show (i : Int) < (am_ac c).2.1
    have hi2 : i < (am_ac c).2.1.toNat := hi
    omega
/-- a layout for the world alone -/
def gk_b1 (h r : Nat) : Nat := if r = 2 then h else h + 10000 * (r + 1)
theorem gk_b1_apart {h : Nat} {ad : Nat → Nat} (h1 : ∀ i j, i < 64 → j < 64 → ad i = ad j → i = j) (h2 : ∀ i, i < 64 → ad i < h) : gk_apart (gk_b1 h) ad := by
  have sz : ∀ r, r < 12 → gk_szl.getD r 0 ≤ 1183 := by
    intro r hr
    have : (List.range 12).all (fun r => Nat.ble (gk_szl.getD r 0) 1183) = true := by decide
    exact Nat.le_of_ble_eq_true (List.all_eq_true.mp this r (List.mem_range.mpr hr))
  refine ⟨fun r r' hr hr' hne => ?_, h1, fun r i hr hi => ?_⟩
  · have a := sz r hr
    have b := sz r' hr'
    unfold gk_b1
    by_cases z : r = 2
    · rw [if_pos z, if_neg (by omega)]
      left; omega
    · rw [if_neg z]
      by_cases z' : r' = 2
      · rw [if_pos z']
        right; omega
      · rw [if_neg z']
        omega
  · have := h2 i hi
    unfold gk_b1
    split <;> omega

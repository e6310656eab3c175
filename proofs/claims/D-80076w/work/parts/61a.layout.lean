/-! where the objects lie, by program (gen61.py) -/
def gk_ldl : List (Nat × Nat × Nat) := [(0, 1, 0), (1, 0, 0), (1, 1, 0), (2, 8, 0), (2, 9, 0), (2, 10, 0), (2, 11, 0), (2, 12, 0), (2, 13, 0), (2, 14, 0), (2, 15, 0), (2, 16, 0), (2, 17, 0), (2, 18, 1), (2, 58, 0), (2, 59, 0), (2, 60, 0), (2, 61, 1), (2, 101, 0), (2, 102, 1), (2, 142, 0), (2, 143, 1), (2, 183, 0), (2, 184, 1), (2, 208, 0), (2, 209, 0), (2, 210, 0), (2, 211, 0), (2, 212, 0), (2, 213, 0), (2, 214, 0), (2, 215, 1), (2, 221, 0), (2, 222, 0), (2, 223, 0), (2, 224, 0), (2, 225, 0), (2, 226, 0), (2, 227, 0), (2, 228, 0), (2, 229, 1), (2, 249, 0), (2, 250, 1), (2, 270, 0), (2, 2, 0), (2, 3, 0), (2, 4, 0), (2, 5, 0), (2, 6, 0), (2, 7, 0), (21, 1, 0), (22, 0, 0), (23, 0, 0), (23, 1, 0), (23, 2, 0), (9, 1, 0), (9, 2, 0), (9, 3, 0), (9, 4, 0), (9, 5, 0), (9, 6, 0), (9, 7, 0), (9, 8, 0), (9, 9, 0), (9, 10, 0), (9, 11, 0), (9, 12, 0), (9, 13, 0), (9, 34, 0), (9, 35, 0), (10, 1, 0), (10, 2, 0), (10, 3, 1), (10, 7, 0), (20, 1, 0), (20, 2, 0), (20, 3, 0), (20, 4, 0), (11, 1, 0), (11, 2, 0), (11, 3, 0), (11, 4, 0), (11, 5, 0), (11, 6, 0), (11, 7, 0), (11, 8, 0), (11, 9, 0), (11, 10, 0), (11, 11, 0), (11, 12, 0), (11, 13, 0), (11, 14, 0), (11, 15, 0), (11, 16, 0), (11, 17, 0), (11, 18, 0), (11, 19, 0), (11, 20, 0), (11, 21, 0), (11, 22, 0), (11, 23, 0), (11, 24, 0), (11, 25, 0), (11, 26, 0), (11, 27, 0), (11, 28, 0), (11, 29, 0), (11, 30, 0), (11, 31, 0), (11, 32, 0), (11, 33, 0), (11, 34, 0), (11, 35, 0), (11, 36, 0), (11, 37, 0), (11, 38, 0), (11, 39, 0), (11, 40, 0), (11, 41, 0), (11, 42, 0), (11, 43, 0), (11, 44, 0), (11, 45, 0), (11, 46, 0), (11, 47, 0), (11, 48, 0), (11, 49, 0), (11, 50, 0), (11, 51, 0), (11, 52, 0), (11, 53, 0), (11, 54, 0), (11, 55, 0), (11, 56, 0), (11, 57, 0), (11, 58, 0), (11, 59, 0), (11, 60, 0), (11, 61, 0), (11, 62, 0), (11, 63, 0), (11, 64, 0), (11, 65, 0), (11, 66, 0), (11, 67, 0), (11, 68, 0), (11, 69, 0), (11, 70, 0), (11, 71, 0), (11, 72, 0), (11, 73, 0), (11, 74, 0), (11, 75, 0), (11, 76, 0), (11, 77, 0), (11, 78, 0), (11, 79, 0), (11, 80, 0), (11, 81, 0), (11, 82, 0), (11, 83, 0), (11, 84, 0), (11, 85, 0), (11, 86, 0), (11, 87, 0), (11, 88, 0), (11, 89, 0), (11, 90, 0), (11, 91, 0)]
def gk_kdl : List Nat := [1, 0, 0, 0, 0, 0, 0, 0, 0, 0, 0, 4, 7, 2, 0, 0, 7, 2, 8, 0, 8, 0, 8, 0, 0, 0, 0, 0, 2, 2, 7, 2, 0, 0, 4, 0, 0, 0, 0, 8, 0, 8, 0, 1, 1, 0, 0, 0, 0, 1, 1, 6, 6, 0, 0, 0, 0, 0, 0, 0, 0, 0, 0, 0, 0, 0, 0, 0, 0, 0, 1, 8, 0, 0, 0, 0, 5, 5, 1, 1, 0, 0, 0, 3, 3, 0, 3, 0, 0, 2, 0, 0, 0, 0, 0, 0, 0, 0, 0, 0, 0, 0, 2, 2, 0, 0, 2, 0, 0, 0, 0, 2, 2, 2, 0, 0, 0, 0, 0, 0, 0, 3, 0, 0, 0, 0, 2, 0, 0, 0, 0, 0, 0, 0, 0, 0, 0, 0, 0, 0, 0, 0, 0, 2, 0, 0, 0, 0, 0, 0, 0, 0, 0, 0, 0, 0, 0, 0, 0, 0, 0, 0, 0, 0, 3, 3, 1, 3, 3]
def gk_ctl : List Nat := [1, 1, 1, 2, 1, 1, 49, 687, 64, 1, 1, 1, 1, 1, 1, 1, 1, 1, 1, 1, 1, 1, 1, 40, 1, 1, 1, 40, 1, 40, 1, 40, 1, 24, 1, 1, 1, 1, 1, 1, 1, 6, 1, 1, 1, 1, 1, 1, 1, 1, 20, 1, 20, 1, 1, 1, 1, 1, 1, 1, 2, 2, 2, 2, 2, 1, 1, 1, 1, 1, 1, 1, 1, 1, 1, 1, 1, 1, 1, 1, 1, 1, 4, 1, 49, 49, 49, 49, 1, 1, 1, 1, 1, 1, 1, 1, 1, 1, 1, 1, 1, 1, 1, 1, 1, 1, 1, 1, 1, 1, 1, 1, 1, 1, 1, 1, 1, 1, 1, 1, 1, 1, 1, 1, 1, 1, 1, 1, 1, 1, 1, 1, 1, 1, 1, 1, 1, 1, 1, 1, 1, 1, 1, 1, 1, 1, 1, 1, 1, 1, 1, 1, 1, 1, 1, 1, 1, 1, 1, 1, 1, 1, 1, 1, 1, 1, 1, 1, 1, 1, 1, 1, 1, 1, 1, 1, 1, 1, 1]
def gk_stl : List Nat := [0, 1, 1, 2, 3, 4, 5, 5, 7, 6, 0, 0, 0, 1, 1, 1, 1, 1, 1, 1, 1, 1, 1, 1, 1, 1, 1, 1, 1, 1, 1, 1, 1, 1, 1, 1, 1, 1, 1, 1, 1, 1, 1, 1, 1, 1, 1, 1, 1, 1, 1, 1, 1, 1, 1, 1, 1, 1, 1, 1, 2, 2, 2, 2, 2, 3, 3, 3, 3, 3, 3, 3, 3, 3, 3, 3, 3, 3, 3, 3, 4, 4, 4, 4, 5, 5, 5, 5, 6, 6, 6, 6, 6, 6, 6, 6, 6, 6, 6, 6, 6, 6, 6, 6, 6, 6, 6, 6, 6, 6, 6, 6, 6, 6, 6, 6, 6, 6, 6, 6, 6, 6, 6, 6, 6, 6, 6, 6, 6, 6, 6, 6, 6, 6, 6, 6, 6, 6, 6, 6, 6, 6, 6, 6, 6, 6, 6, 6, 6, 6, 6, 6, 6, 6, 6, 6, 6, 6, 6, 6, 6, 6, 6, 6, 6, 6, 6, 6, 6, 6, 6, 6, 6, 6, 6, 6, 6, 6, 6]
/-- rule n -/
def gk_ra (b : Nat → Nat) (n : Nat) : Nat := if n < 48 then b 2 + 271 + n * 19 else b 9 + 15
def gk_ar (b : Nat → Nat) (q : Nat × Nat × Nat) (n : Nat) : Nat := if q.1 = 20 then gk_ra b n + q.2.1 else if q.1 = 21 then (if n = 0 then b 3 else b 6) + q.2.1 else if q.1 = 22 then (if n = 0 then b 4 else b 7) + q.2.1 else if q.1 = 23 then (if n = 0 then b 5 else b 8) + q.2.1 else b q.1 + q.2.1 + n * q.2.2
/-- the addresses: b 0 RuleSentences, b 1 its last arrays, b 2 World, b 3..5 and 6..8 the two Tokens, b 9 Reader, b 10 Turns, b 11 the model; ad the constants of Token -/
def gk_adr (b ad : Nat → Nat) (c n : Nat) : Nat := if c = 0 then b 0 else if c = 1 then b 2 else if c = 2 then b 2 + 1 else if c = 3 then (if n = 0 then b 3 else b 6) else if c = 4 then b 9 else if c = 5 then b 10 else if c = 6 then gk_ra b n else if c = 7 then (if n = 686 then b 9 + 14 else gk_ra b (n / 14) + 5 + n % 14) else if c = 8 then ad n else if c = 9 then b 11 else gk_ar b (gk_ldl.getD (c - 10) (0, 0, 0)) n
def gk_cid (K : Nat → ClassId) (D : va_G) (c : Nat) : ClassId := if c < 10 then D.1 c else K (gk_kdl.getD (c - 10) 0)
def gk_E (K : Nat → ClassId) (D : va_G) (b ad : Nat → Nat) : ga_E := (gk_adr b ad, gk_cid K D, D.2)
/-- how many, when the stages of a list stand, and r rules -/
def gk_cnt (L : List Nat) (r c : Nat) : Nat := if 179 ≤ c then 0 else if gk_stl.getD c 9 = 5 then (if c = 7 then (if r = 49 then 687 else 14 * r) else r) else if gk_stl.getD c 9 = 7 ∨ L.contains (gk_stl.getD c 9) = true then gk_ctl.getD c 0 else 0
/-- one object of ga_Hd -/
def ga_H1 (Y : ga_Y) (σ : ga_S) (H : Heap) (c n : Nat) : Prop :=
  (∀ q : vw_C, Y.2.2.2.2.1[c]? = some q → ga_tO (Y.1.1 c n) (Y.1.2.1 c) q.2.2 (Y.1.2.2 c) H (fun k => ga_cv Y.1 (ga_fv (Y.2.2.1.2.1 c k) n σ)) ∧ ∀ k : Nat, k < q.2.2 → ga_vk Y (ga_fv (Y.2.2.1.2.1 c k) n σ)) ∧
  (Y.2.2.2.2.1[c]? = none → H[Y.1.1 c n]? = some (arrV (Y.1.2.1 c) (Y.2.2.1.2.2 c).2.1.toNat (fun i => ga_cv Y.1 (ga_av (Y.2.2.1.2.2 c) n i σ))) ∧ ∀ i : Nat, (i : Int) < (Y.2.2.1.2.2 c).2.1 → ga_vk Y (ga_av (Y.2.2.1.2.2 c) n i σ)) ∧
  ((Y.2.2.1.2.2 c).1 = 1 → Y.2.2.2.2.1[c]? = none → ∀ i : Nat, (i : Int) < (Y.2.2.1.2.2 c).2.1 → ga_R8 (ga_av (Y.2.2.1.2.2 c) n i σ).2)
theorem ga_Hd_iff {Y : ga_Y} {σ : ga_S} {H : Heap} : ga_Hd Y σ H ↔ ∀ c n : Nat, n < Y.2.1 c → ga_H1 Y σ H c n := Iff.rfl
theorem ga_H1_kept {Y : ga_Y} {σ : ga_S} {H H1 : Heap} {c n : Nat} (h : ga_H1 Y σ H c n) (e : H1[Y.1.1 c n]? = H[Y.1.1 c n]?) : ga_H1 Y σ H1 c n :=
  ⟨fun q hq => ⟨(h.1 q hq).1.kept e, (h.1 q hq).2⟩, fun hn => ⟨by rw [e]; exact (h.2.1 hn).1, (h.2.1 hn).2⟩, h.2.2⟩
/-- a new array of numbers -/
theorem gk_H1_p {Y : ga_Y} {σ : ga_S} {H : Heap} {c n e N F : Nat} (hcl : Y.2.2.2.2.1[c]? = none) (hac : Y.2.2.1.2.2 c = (e, (N : Int), (if e = 3 then 1 else 0), F, 0, 0)) (he : e < 4) (hσ : ∀ i : Int, σ F n i = 0) (hH : H[Y.1.1 c n]? = some (arrV (Y.1.2.1 c) N (fun _ => gk_dv e))) : ga_H1 Y σ H c n := by
  have av : ∀ i : Int, ga_av (Y.2.2.1.2.2 c) n i σ = ((if e = 3 then 1 else 0), 0) := by
    intro i
    unfold ga_av
    rw [hac]
    dsimp only
    rw [if_pos (by split <;> omega), hσ]
  have ev : ∀ i : Int, ga_cv Y.1 (ga_av (Y.2.2.1.2.2 c) n i σ) = gk_dv e := by
    intro i
    rw [av]
    have : e = 0 ∨ e = 1 ∨ e = 2 ∨ e = 3 := by omega
    rcases this with z | z | z | z <;> subst z <;> rfl
  have vk : ∀ i : Int, ga_vk Y (ga_av (Y.2.2.1.2.2 c) n i σ) := by
    intro i
    rw [av]
    by_cases z : e = 3
    · rw [if_pos z]; exact ⟨by decide, by decide⟩
    · rw [if_neg z]; exact ⟨by decide, by decide⟩
  refine ⟨fun q hq => ?_, fun _ => ⟨?_, fun i _ => vk i⟩, fun _ _ i _ => ?_⟩
  · rw [hcl] at hq; cases hq
  · rw [hH, show (Y.2.2.1.2.2 c).2.1.toNat = N by rw [hac]; exact Int.toNat_natCast N]
    congr 2
    funext i
    exact (ev i).symm
  · rw [av]
    show -128 ≤ (0 : Int) ∧ (0 : Int) < 128
    decide

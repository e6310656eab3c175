/-! the library's members as AM's prims: those that make nothing -/
section
variable {E : ga_E} {cnt : Nat → Nat} {U0 : State} {D : va_G}
def am_concl (Y : ga_Y) (X : ga_CX) (cc : ByteArray) (inst : Bool) (idx : Nat) (rt : Int) (vs : List ga_V) (σ : ga_S) (q : ga_R) : Prop :=
  ga_al σ ≤ ga_al q.2 ∧ ∀ (pc : Nat) (H : Heap) (ls : Array Slot) (svs srest : List Value) (locs : List Loc) (k : Nat), ls.size = ga_xn X → ga_Hd Y σ H → ga_SR Y H vs svs → (srest.map fun v => v.category).sum ≤ 8 → ga_xS Y X H locs →
      decode cc pc = .ok (if inst = true then .invokevirtual idx else .invokestatic idx, 3) → (2 * (k + (ga_al q.2 - ga_al σ)) ≤ X.2.2.2.1.cells ∧ 32 * (k + (ga_al q.2 - ga_al σ)) ≤ X.2.2.2.1.slots) →
      (∀ (H1 : Heap) (locs1 : List Loc) (rv : List Value), ga_Hd Y q.2 H1 → ga_keep Y H H1 → (if rt = -1 then rv = [] else ∃ w, rv = [w] ∧ ga_vr Y H1 (rt.toNat, q.1) w) → ga_xS Y X H1 locs1 → ga_W X H1 locs1 (k + (ga_al q.2 - ga_al σ)) (pc + 3) ls (rv ++ srest)) →
      ga_W X H locs k pc ls (svs.reverse ++ srest)
theorem am_fin {Y : ga_Y} {X : ga_CX} {cc : ByteArray} {inst : Bool} {idx : Nat} {rt : Int} {vs : List ga_V} {σ : ga_S} {v : Int} (hrt : rt ≠ -1)
    (step : ∀ (pc : Nat) (H : Heap) (ls : Array Slot) (svs srest : List Value) (locs : List Loc) (k : Nat), ls.size = ga_xn X → ga_Hd Y σ H → ga_SR Y H vs svs → (srest.map fun v => v.category).sum ≤ 8 → ga_xS Y X H locs →
      decode cc pc = .ok (if inst = true then .invokevirtual idx else .invokestatic idx, 3) → (2 * k ≤ X.2.2.2.1.cells ∧ 32 * k ≤ X.2.2.2.1.slots) → ∃ w, ga_vr Y H (rt.toNat, v) w ∧ (ga_W X H locs k (pc + 3) ls (w :: srest) → ga_W X H locs k pc ls (svs.reverse ++ srest))) : am_concl Y X cc inst idx rt vs σ (v, σ) := by
  refine ⟨Nat.le_refl _, fun pc H ls svs srest locs k a1 a2 a3 a4 a5 a6 a7 kk => ?_⟩
  rw [Nat.sub_self, Nat.add_zero] at a7
  obtain ⟨w, hw, h⟩ := step pc H ls svs srest locs k a1 a2 a3 a4 a5 a6 a7
  refine h ?_
  have := kk H locs [w] a2 ⟨Nat.le_refl _, fun _ _ _ => rfl⟩ (by rw [if_neg hrt]; exact ⟨w, rfl, hw⟩) a5
  rw [Nat.sub_self, Nat.add_zero] at this
  exact this
theorem am_vr2 {Y : ga_Y} {H : Heap} {x : Int} {w : Value} (h : ga_vr Y H (2, x) w) : ∃ a, w = .ref a ∧ Y.2.2.2.1 H a x := by
  rcases h with ⟨-, h⟩ | ⟨-, h⟩
  · exact h
  · exact h.elim
variable {X : ga_CX} {cc : ByteArray} {own : String} {rk : Nat} {r : ga_R} {idx : Nat}
theorem am_p_len (hX : ga_ok (am_YS E cnt U0) X cc own rk r) (hroom : 0 + 1 + 20 ≤ X.2.2.2.1.frames ∧ 80 * (0 + 1) + 2000 ≤ X.2.2.2.1.locals) (hSx : am_Sx E cnt U0 D (ga_xs X)) (hl : Cond.methodLink own idx ⟨"java/lang/String", "length", "()I"⟩ ∈ ga_gw) {x : Int} {σ : ga_S} :
    am_concl (am_YS E cnt U0) X cc true idx 0 [(2, x)] σ (am_len x, σ) := by
  refine am_fin (by decide) (fun pc H ls svs srest locs k a1 a2 a3 a4 a5 a6 a7 => ?_)
  obtain ⟨w1, r1, rfl, v1, s1⟩ := ga_SR_c a3
  have := ga_SR_n s1
  subst this
  obtain ⟨a, rfl, hs⟩ := am_vr2 v1
  obtain ⟨d, hJ, hcell⟩ := am_J hSx a5 hs
  have hlen := am_txt_len x
  refine ⟨.int (Int32.ofInt (am_len x)), ga_vr_mi ⟨?_, ?_⟩, fun kk => ?_⟩
  · unfold am_len; omega
  · unfold am_len; omega
  · exact am_pureV hX hroom (As := []) jm_length g_length jm_J.bl (fun U h1 h2 => (hJ U h1 h2).1) hcell hl jw_1_216 jw_1_217 (by decide +kernel) a1 a4 a6 (by decide) (by decide) (by decide) a7 kk
theorem am_p_chr (hX : ga_ok (am_YS E cnt U0) X cc own rk r) (hroom : 0 + 1 + 20 ≤ X.2.2.2.1.frames ∧ 80 * (0 + 1) + 2000 ≤ X.2.2.2.1.locals) (hSx : am_Sx E cnt U0 D (ga_xs X)) (hl : Cond.methodLink own idx ⟨"java/lang/String", "charAt", "(I)C"⟩ ∈ ga_gw) {x i : Int} {σ : ga_S} (hi0 : 0 ≤ i) (hi1 : i < am_len x) :
    am_concl (am_YS E cnt U0) X cc true idx 0 [(2, x), (0, i)] σ (am_chr x i, σ) := by
  refine am_fin (by decide) (fun pc H ls svs srest locs k a1 a2 a3 a4 a5 a6 a7 => ?_)
  obtain ⟨w1, r1, rfl, v1, s1⟩ := ga_SR_c a3
  obtain ⟨w2, r2, rfl, v2, s2⟩ := ga_SR_c s1
  have := ga_SR_n s2
  subst this
  obtain ⟨a, rfl, hs⟩ := am_vr2 v1
  obtain ⟨rfl, -⟩ := ga_vr_i v2
  obtain ⟨d, hJ, hcell⟩ := am_J hSx a5 hs
  have hlt : i.toNat < (am_txt x).length := by unfold am_len at hi1; omega
  obtain ⟨c0, c1⟩ := am_txt_chr hlt
  have ei : Int32.ofInt i = nI i.toNat := am_ofI hi0
  refine ⟨.int (Int32.ofInt (am_chr x i)), ga_vr_mi ⟨?_, ?_⟩, fun kk => ?_⟩
  · unfold am_chr; omega
  · unfold am_chr; omega
  · rw [ei]
    have e2 : Int32.ofInt (am_chr x i) = nI (am_chr x i).toNat := am_ofI c0
    rw [e2] at kk
    exact am_pureV hX hroom (As := [.int (nI i.toNat)]) (jm_charAt (q := (am_chr x i).toNat) hlt (by unfold am_chr; omega) e2) g_charAt jm_J.bl (fun U h1 h2 => (hJ U h1 h2).1) hcell hl jw_1_226 jw_1_227 dd_charAt a1 a4 a6 (by decide) (by decide) (by decide) a7 kk
theorem am_p_idx (hX : ga_ok (am_YS E cnt U0) X cc own rk r) (hroom : 0 + 1 + 20 ≤ X.2.2.2.1.frames ∧ 80 * (0 + 1) + 2000 ≤ X.2.2.2.1.locals) (hSx : am_Sx E cnt U0 D (ga_xs X)) (hl : Cond.methodLink own idx ⟨"java/lang/String", "indexOf", "(II)I"⟩ ∈ ga_gw) {x ch i : Int} {σ : ga_S} (hc0 : 0 ≤ ch) (hc1 : ch < 128) (hi0 : 0 ≤ i) :
    am_concl (am_YS E cnt U0) X cc true idx 0 [(2, x), (0, ch), (0, i)] σ (am_idx x ch i, σ) := by
  refine am_fin (by decide) (fun pc H ls svs srest locs k a1 a2 a3 a4 a5 a6 a7 => ?_)
  obtain ⟨w1, r1, rfl, v1, s1⟩ := ga_SR_c a3
  obtain ⟨w2, r2, rfl, v2, s2⟩ := ga_SR_c s1
  obtain ⟨w3, r3, rfl, v3, s3⟩ := ga_SR_c s2
  have := ga_SR_n s3
  subst this
  obtain ⟨a, rfl, hs⟩ := am_vr2 v1
  obtain ⟨rfl, -⟩ := ga_vr_i v2
  obtain ⟨rfl, ri⟩ := ga_vr_i v3
  obtain ⟨d, hJ, hcell⟩ := am_J hSx a5 hs
  have hlen := am_txt_len x
  have hg : ∀ j, j < (am_txt x).length → ((am_txt x).getD j 0).toNat < 128 := fun j hj => by have := am_txt_chr hj; omega
  have hf : ∀ j, j < (am_txt x).length → Int32.ofInt ((am_txt x).getD j 0) = nI ((am_txt x).getD j 0).toNat := fun j hj => am_ofI (am_txt_chr hj).1
  have hix : am_idx x ch i = jm_ix (fun j => ((am_txt x).getD j 0).toNat) ch.toNat ((am_txt x).length - i.toNat) i.toNat := by
    unfold am_idx
    have := am_ix_eq ch ((am_txt x).drop i.toNat) i.toNat (fun j => ((am_txt x).getD j 0).toNat) hc0 (fun j hj => by
      rw [List.length_drop] at hj
      have h2 := am_txt_chr (x := x) (j := i.toNat + j) (by omega)
      rw [List.getD_eq_getElem?_getD (l := (am_txt x).drop i.toNat), List.getElem?_drop, ← List.getD_eq_getElem?_getD]
      omega)
    rw [show ((i.toNat : Nat) : Int) = i by omega, List.length_drop] at this
    exact this
  have hb : ∀ (g : Nat → Nat) (q : Nat) (m j : Nat), -1 ≤ jm_ix g q m j ∧ jm_ix g q m j < m + j + 1 := by
    intro g q m
    induction m with
    | zero => intro j; exact ⟨Int.le_refl _, by show (-1 : Int) < _; omega⟩
    | succ m ih =>
      intro j
      rw [jm_ix]
      split
      · omega
      · have := ih (j + 1); omega
  have hbx := hb (fun j => ((am_txt x).getD j 0).toNat) ch.toNat ((am_txt x).length - i.toNat) i.toNat
  rw [← hix] at hbx
  have hri : i < 2147483648 := ri.2
  refine ⟨.int (Int32.ofInt (am_idx x ch i)), ga_vr_mi ?_, fun kk => ?_⟩
  · by_cases hz : i.toNat < (am_txt x).length
    · exact ⟨by omega, by omega⟩
    · have : am_idx x ch i = -1 := by
        rw [hix, show (am_txt x).length - i.toNat = 0 by omega]
        rfl
      rw [this]
      exact ⟨by decide, by decide⟩
  · rw [am_ofI hc0, am_ofI hi0]
    rw [hix] at kk
    exact am_pureV hX hroom (As := [.int (nI ch.toNat), .int (nI i.toNat)]) (jm_indexOf (g := fun j => ((am_txt x).getD j 0).toNat) (by omega) hg hf (by omega)) g_indexOf jm_J.bl (fun U h1 h2 => (hJ U h1 h2).1) hcell hl jw_2_67 jw_2_68 dd_indexOf a1 a4 a6 (by decide) (by decide) (by decide) a7 kk
end

/-! the library's members, called from a method of the table -/
def am_okT (l : List Int) : Bool := Nat.ble l.length 900 && l.all (fun c => decide (0 ≤ c) && decide (c < 128))
theorem am_cnd {b : Bool} {x y : List Int} (hx : am_okT x = true) (hy : am_okT y = true) : am_okT (bif b then x else y) = true := by
  cases b
  · exact hy
  · exact hx
set_option maxRecDepth 100000 in
theorem am_lit_ok (j : Nat) : am_okT (am_lit j) = true := by
  unfold am_lit
  repeat' apply am_cnd
  all_goals decide +kernel
theorem am_txt_mem {x c : Int} (h : c ∈ am_txt x) : ∃ j, c ∈ am_lit j := by
  unfold am_txt at h
  cases e : decide (x < 1000) with
  | true => rw [e] at h; exact ⟨_, h⟩
  | false => rw [e] at h; exact ⟨_, List.mem_of_mem_take (List.mem_of_mem_drop h)⟩
theorem am_txt_len (x : Int) : (am_txt x).length ≤ 900 := by
  have hl : ∀ j, (am_lit j).length ≤ 900 := fun j => Nat.le_of_ble_eq_true (am_and (am_lit_ok j)).1
  unfold am_txt
  cases e : decide (x < 1000) with
  | true => exact hl _
  | false =>
    show (((am_lit _).take _).drop _).length ≤ 900
    rw [List.length_drop, List.length_take]
    have := hl (x % 1000).toNat
    omega
theorem am_txt_chr {x : Int} {j : Nat} (h : j < (am_txt x).length) : 0 ≤ (am_txt x).getD j 0 ∧ (am_txt x).getD j 0 < 128 := by
  have hm : (am_txt x).getD j 0 ∈ am_txt x := by
    rw [List.getD_eq_getElem?_getD, List.getElem?_eq_getElem h]
    exact List.getElem_mem h
  obtain ⟨i, hi⟩ := am_txt_mem hm
  have := am_and (List.all_eq_true.mp (am_and (am_lit_ok i)).2 _ hi)
  exact ⟨of_decide_eq_true this.1, of_decide_eq_true this.2⟩
theorem am_ofI {c : Int} (h : 0 ≤ c) : Int32.ofInt c = nI c.toNat := by
  have : c = (c.toNat : Int) := by omega
  rw [this]
  rfl
section
variable {E : ga_E} {cnt : Nat → Nat} {U0 : State} {D : va_G}
theorem am_J {s : State} {H : Heap} {locs : List Loc} {a : Nat} {x : Int} (hSx : am_Sx E cnt U0 D s) (hZ : va_S (ga_Ar (am_YS E cnt U0) s.heap.size) s.heap H locs) (h : am_SSd (am_isO E cnt) U0 H a x) :
    ∃ d, (∀ U : State, U.heap = H → s.WarmedH U.vm → jm_J (am_isO E cnt) a d (am_txt x).length (fun j => Int32.ofInt ((am_txt x).getD j 0)) U ∧ va_K D cl_S [] U) ∧ ∃ cell : Cell, H[a]? = some cell ∧ cell.vm.isStatics = false ∧ s.vm.findClass "java/lang/String" = some cell.cls := by
  obtain ⟨d, h1, h2, h3, h4⟩ := h
  obtain ⟨k1, k2, k3, k4, k5, k6⟩ := hSx
  have hq : ∀ q : Nat, q < s.heap.size → ¬ am_isO E cnt q → H[q]? = s.heap[q]? := fun q g1 g2 => hZ.2.1 q g1 (am_Ar_re q g1 g2)
  refine ⟨d, fun U eh hW => ⟨?_, va_K.moved hW.alike k4⟩, ?_⟩
  · have hv := k1.trans hW.alike
    unfold jm_J
    rw [eh]
    exact ⟨va_O.moved hv h1, va_OF.moved hv h2, va_OF.moved hv h3, va_T.moved hv h4, (va_Z.moved hW.alike k2).kept hq, (va_Zq.moved hW.alike k3).kept hq, Nat.lt_of_le_of_lt (am_txt_len x) (by decide)⟩
  · obtain ⟨cell, c1, c2, c3, -⟩ := va_O.moved k1 h1
    exact ⟨cell, c1, c2, c3⟩
theorem am_Sf {X : ga_CX} {cc : ByteArray} {own : String} {rk : Nat} {r : ga_R} (hX : ga_ok (am_YS E cnt U0) X cc own rk r) : CallFix X.1 X.2.2.2.2.2.1 X.2.2.2.2.2.2.2.2.2.1 cc (ga_xn X) (ga_xs X) X.2.2.2.2.2.2.1 ga_gw own := by
  obtain ⟨p, l, e, R, s, m, args, below, meth, c, Q, nL, a0⟩ := X
  obtain ⟨hx, hb, hml, hown, hts, -⟩ := hX
  exact ⟨hx, hb, hml, hown, fun w hw => hts w (ga_in_tb hw)⟩
/-- a member that makes nothing -/
theorem am_pureV {X : ga_CX} {cc : ByteArray} {own : String} {rk : Nat} {r : ga_R} (hX : ga_ok (am_YS E cnt U0) X cc own rk r) (hroom : 0 + 1 + 20 ≤ X.2.2.2.1.frames ∧ 80 * (0 + 1) + 2000 ≤ X.2.2.2.1.locals) {y : jm_N} {n kl idx b : Nat} {As : List Value} {J : State → Prop} {v : Value} {C : String} (hC : jm_C X.2.1 y n kl (.ref b :: As) J (some v)) (hy : jm_good y) (hbl : jm_bl J)
    {pc : Nat} {H : Heap} {ls : Array Slot} {srest : List Value} {locs : List Loc} {k : Nat} (hJ : ∀ U : State, U.heap = H → (ga_xs X).WarmedH U.vm → J U) (hcell : ∃ cell : Cell, H[b]? = some cell ∧ cell.vm.isStatics = false ∧ (ga_xs X).vm.findClass C = some cell.cls)
    (hl : Cond.methodLink own idx y.1 ∈ ga_gw) (hin : Cond.instanceMethod y.1 ∈ ga_gw) (hsel : Cond.selects C y.1 y.1 ∈ ga_gw) (hdesc : (parseMethodDescriptor y.1.desc).map (fun d => d.parameters.length) = some As.length) (hls : ls.size = ga_xn X) (hcat : (srest.map fun v => v.category).sum ≤ 8) (hd : decode cc pc = .ok (.invokevirtual idx, 3))
    (hn : n ≤ 15) (hk : kl ≤ 300) (hm : y.2.2.1 ≤ 10) (hf : 2 * k ≤ X.2.2.2.1.cells ∧ 32 * k ≤ X.2.2.2.1.slots) (kk : ga_W X H locs k (pc + 3) ls (v :: srest)) : ga_W X H locs k pc ls (As.reverse ++ .ref b :: srest) := by
  have S := am_Sf hX
  obtain ⟨p, l, e, R, s, m, args, below, meth, c, Q, nL, a0⟩ := X
  have h1 : 21 ≤ R.frames := hroom.1
  have h2 : 2080 ≤ R.locals := hroom.2
  exact jm_V S hC hy hbl hJ hcell hl hin hsel hdesc hls hcat hd ⟨by omega, by omega⟩ hf kk
theorem am_ix_eq (c : Int) : ∀ (l : List Int) (i : Nat) (g : Nat → Nat), 0 ≤ c → (∀ j, j < l.length → (g (i + j) : Int) = l.getD j 0) → am_idxF c i l = jm_ix g c.toNat l.length i
  | [], i, g, hc, h => rfl
  | x :: r, i, g, hc, h => by
    have h0 : (g i : Int) = x := h 0 (by simp)
    have ih := am_ix_eq c r (i + 1) g hc (fun j hj => by
      have := h (j + 1) (by simp; omega)
      rw [show i + (j + 1) = i + 1 + j by omega] at this
      rw [this]
      rfl)
    rw [am_idxF, List.length_cons, jm_ix]
    by_cases e : x = c
    · rw [if_pos e, if_pos (by omega)]
    · rw [if_neg e, if_neg (by omega)]
      exact ih
end

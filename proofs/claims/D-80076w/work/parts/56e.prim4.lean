/-! the library's members as AM's prims: substring -/
theorem ga_Hd_lt {Y : ga_Y} {σ : ga_S} {H : Heap} (h : ga_Hd Y σ H) {c n : Nat} (hn : n < Y.2.1 c) : Y.1.1 c n < H.size := by
  obtain ⟨h1, h2, -⟩ := h c n hn
  cases e : Y.2.2.2.2.1[c]? with
  | none => exact (Array.getElem?_eq_some_iff.mp (h2 e).1).1
  | some q =>
    obtain ⟨cell, k1, -⟩ := (h1 q e).1
    exact (Array.getElem?_eq_some_iff.mp k1).1
theorem ga_Hd_more {Y : ga_Y} (hT : ga_TB Y) {σ : ga_S} {H H1 : Heap} {v : Int} (h : ga_Hd Y σ H) (hq : ∀ x : Nat, x < H.size → H1[x]? = H[x]?) : ga_Hd Y (ga_up σ 330 0 0 v) H1 := by
  obtain ⟨inv, hi1, hi2⟩ := hT.2.1
  intro c n hn
  have hlt := ga_Hd_lt h hn
  have ha : Y.2.2.2.2.1[c]? = none → ∀ i : Int, ga_av (Y.2.2.1.2.2 c) n i (ga_up σ 330 0 0 v) = ga_av (Y.2.2.1.2.2 c) n i σ := by
    intro e i
    rw [ga_av_up, if_neg]
    rintro ⟨z1, z2, -⟩
    exact (hi2 c e (by omega) z1).2 z2
  obtain ⟨h1, h2, h3⟩ := h c n hn
  refine ⟨fun q e => ?_, fun e => ?_, fun e8 e i hi => ?_⟩
  · obtain ⟨k1, k2⟩ := h1 q e
    have hf : ∀ k, k < q.2.2 → ga_fv (Y.2.2.1.2.1 c k) n (ga_up σ 330 0 0 v) = ga_fv (Y.2.2.1.2.1 c k) n σ := by
      intro k hk
      rw [ga_fv_up, if_neg]
      rintro ⟨z1, z2, -⟩
      exact (hi1 c q k e hk z1).2 z2
    exact ⟨(k1.kept (hq _ hlt)).to (fun k hk => by rw [hf k hk]), fun k hk => by rw [hf k hk]; exact k2 k hk⟩
  · obtain ⟨k1, k2⟩ := h2 e
    refine ⟨?_, fun i hi => by rw [ha e]; exact k2 i hi⟩
    rw [hq _ hlt, k1]
    congr 2
    funext i
    rw [ha e]
  · rw [ha e]
    exact h3 e8 e i hi
theorem am_SSd.moved {A : Nat → Prop} {u U : State} {H : Heap} {a : Nat} {x : Int} (hv : u.vm.Alike U.vm) (h : am_SSd A u H a x) : am_SSd A U H a x := by
  obtain ⟨d, h1, h2, h3, h4⟩ := h
  exact ⟨d, va_O.moved hv h1, va_OF.moved hv h2, va_OF.moved hv h3, va_T.moved hv h4⟩
theorem am_sub_txt {x a b : Int} (h0 : 0 ≤ x) (h1 : x < 1000) (ha : 0 ≤ a) (hab : a < b) (hb : b < 900) : am_txt (x + 1000 * a + 1000000 * (b + 1)) = ((am_txt x).take b.toNat).drop a.toNat := by
  unfold am_txt
  rw [show decide (x + 1000 * a + 1000000 * (b + 1) < 1000) = false from decide_eq_false (by omega), show decide (x < 1000) = true from decide_eq_true h1]
  show ((am_lit _).take _).drop _ = ((am_lit _).take _).drop _
  rw [show (x + 1000 * a + 1000000 * (b + 1)) % 1000 = x by omega, show (x + 1000 * a + 1000000 * (b + 1)) / 1000000 - 1 = b by omega, show (x + 1000 * a + 1000000 * (b + 1)) / 1000 % 1000 = a by omega]
theorem am_sub_get {l : List Int} {a b j : Nat} (hb : b ≤ l.length) (hj : j < b - a) : ((l.take b).drop a).getD j 0 = l.getD (a + j) 0 := by
  rw [List.getD_eq_getElem?_getD, List.getD_eq_getElem?_getD, List.getElem?_drop, List.getElem?_take_of_lt (by omega)]
/-- a made String is a text -/
theorem am_made {A : Nat → Prop} {s U : State} {args : Array Value} {D : va_G} {sz k b : Nat} {f : Nat → Int32} {v : Option Value} {x : Int} (hts : ∀ w ∈ ga_gw, w.before args s = true) (hK : va_K D cl_S [] s) (hv : s.vm.Alike U.vm) (hA : ∀ q, sz ≤ q → ¬ A q) (hk : k < 2 ^ 31) (hx : (am_txt x).length = k) (hf : ∀ j, j < k → f (b + j) = Int32.ofInt ((am_txt x).getD j 0)) (h : jm_FS D sz k f b v U) : ∃ r, v = some (.ref r) ∧ am_SSd A s U.heap r x := by
  obtain ⟨r, q, cA, rfl, h2, h3, h4, h5, h6⟩ := h
  refine ⟨r, rfl, q, ?_⟩
  obtain ⟨rr, hc, cell, c1, c2, c3, c4⟩ := h4 0 _ rfl
  have hrr : rr = ("java/lang/String", T_S, 4) := (Option.some.inj hc).symm
  subst hrr
  obtain ⟨hs, hcl, kC, hkC, -⟩ := hK.1 0 _ rfl
  have fld : ∀ i, i < 4 → ∃ (cf : ClassId) (k : Class) (fi : Nat) (fd : Field), s.fieldFound? (T_S i).1 (T_S i).2.1 (T_S i).2.2.1 = some (cf, k, fi, fd) ∧ fd.isStatic = false ∧ fd.slot = D.2 0 i := by
    intro i hi
    obtain ⟨cf, kf, fi, fd, g1, g2⟩ := hs i hi
    have := (u_facts hcl hkC (u_lays (C := "java/lang/String") hts in_S hi) g1).1
    exact ⟨cf, kf, fi, fd, g1, this, g2⟩
  have hvm : cell.vm ≠ .unknown := by rw [c3]; intro z; cases z
  refine ⟨⟨cell, c1, by rw [c3]; rfl, by rw [c2]; exact hcl, hA r h2⟩, ?_, ?_, ?_⟩
  · obtain ⟨cf, kf, fi, fd, g1, g2, g3⟩ := fld 1 (by decide)
    exact ⟨cf, kf, fi, fd, cell, g1, g2, c1, hvm, by rw [g3]; exact c4 1 (by decide), hA r h2⟩
  · obtain ⟨cf, kf, fi, fd, g1, g2, g3⟩ := fld 0 (by decide)
    exact ⟨cf, kf, fi, fd, cell, g1, g2, c1, hvm, by rw [g3]; exact c4 0 (by decide), hA r h2⟩
  · have e : vp_cell cA (k, .inl (va_cpy f (fun _ => 0) b 0 k)) = arrV cA k (fun j => .int (va_cpy f (fun _ => 0) b 0 k j)) := rfl
    rw [e] at h6
    rw [hx]
    refine ⟨_, h6, arrOfT_moved hv.symm h5 _ _, (fun z => by cases z), Nat.le_of_eq (arrV_size _ _ _).symm, congrArg Nat.toInt32 (arrV_size _ _ _), fun j hj => ?_, hA q h3⟩
    rw [arrV_read _ _ hj, pk_cpy_in (by omega) (by omega), show j - 0 = j from rfl, hf j hj]
section
variable {E : ga_E} {cnt : Nat → Nat} {U0 : State} {D : va_G} {X : ga_CX} {cc : ByteArray} {own : String} {rk : Nat} {r : ga_R} {idx : Nat}
theorem am_p_sub (hT : ga_TB (am_YS E cnt U0)) (hX : ga_ok (am_YS E cnt U0) X cc own rk r) (hroom : 0 + 1 + 20 ≤ X.2.2.2.1.frames ∧ 80 * (0 + 1) + 2000 ≤ X.2.2.2.1.locals) (hSx : am_Sx E cnt U0 D (ga_xs X)) (hl : Cond.methodLink own idx ⟨"java/lang/String", "substring", "(II)Ljava/lang/String;"⟩ ∈ ga_gw) {x a b : Int} {σ : ga_S}
    (h0 : 0 ≤ x) (h1 : x < 1000) (ha : 0 ≤ a) (hab : a < b) (hbl : b ≤ am_len x) (h12 : b - a < 12) (hb9 : b < 900) (hal : 0 ≤ σ fX_alloc 0 0) :
    am_concl (am_YS E cnt U0) X cc true idx 2 [(2, x), (0, a), (0, b)] σ (x + 1000 * a + 1000000 * (b + 1), ga_up σ fX_alloc 0 0 (σ fX_alloc 0 0 + 1)) := by
  have hal2 : ga_al (ga_up σ fX_alloc 0 0 (σ fX_alloc 0 0 + 1)) = ga_al σ + 1 := by
    unfold ga_al ga_up
    rw [if_pos ⟨rfl, rfl, rfl⟩]
    show (σ 330 0 0 + 1).toNat = (σ 330 0 0).toNat + 1
    have : 0 ≤ σ 330 0 0 := hal
    omega
  refine ⟨by show ga_al σ ≤ ga_al (ga_up σ fX_alloc 0 0 _); omega, fun pc H ls svs srest locs k a1 a2 a3 a4 a5 a6 a7 kk => ?_⟩
  dsimp only at a7 kk
  rw [hal2, Nat.add_sub_cancel_left] at a7 kk
  obtain ⟨w1, r1, rfl, v1, s1⟩ := ga_SR_c a3
  obtain ⟨w2, r2, rfl, v2, s2⟩ := ga_SR_c s1
  obtain ⟨w3, r3, rfl, v3, s3⟩ := ga_SR_c s2
  have := ga_SR_n s3
  subst this
  obtain ⟨o, rfl, hs⟩ := am_vr2 v1
  obtain ⟨rfl, -⟩ := ga_vr_i v2
  obtain ⟨rfl, -⟩ := ga_vr_i v3
  obtain ⟨d, hJ, hcell⟩ := am_J hSx a5 hs
  have hlen := am_txt_len x
  have hlx : b.toNat ≤ (am_txt x).length := by unfold am_len at hbl; omega
  have S := am_Sf hX
  obtain ⟨p, l, e, R, s, m, args, below, meth, c, Q, nL, a0⟩ := X
  have z1 : 21 ≤ R.frames := hroom.1
  have z2 : 2080 ≤ R.locals := hroom.2
  have y1 : 2 * (k + 1) ≤ R.cells := a7.1
  have y2 : 32 * (k + 1) ≤ R.slots := a7.2
  have hSx' : am_Sx E cnt U0 D s := hSx
  rw [am_ofI ha, am_ofI (show 0 ≤ b by omega)]
  have hby : ∀ j : Nat, j < (am_txt x).length → fits .byte (.int (Int32.ofInt ((am_txt x).getD j 0))) = true := by
    intro j hj
    have hc := am_txt_chr hj
    have e8 : Int32.ofInt ((am_txt x).getD j 0) = (Int32.ofInt ((am_txt x).getD j 0)).toInt8.toInt32 := by
      rw [ga_i2b]
      congr 1
      unfold w8
      omega
    rw [e8]
    exact pk_fb _
  refine jm_Vm (R := R) (As := [.int (nI a.toNat), .int (nI b.toNat)]) (rest := srest) (A := ga_Ar (am_YS E cnt U0) s.heap.size) (sz := H.size) (C := "java/lang/String") S (jm_subs (D := D) (A := am_isO E cnt) (f := fun j => Int32.ofInt ((am_txt x).getD j 0)) (d := d) (n := (am_txt x).length) (show a.toNat < b.toNat by omega) hlx (by omega) hby) g_subs jm_subs_bl jm_Fu_al hJ hcell hl jw_2_122 jw_2_123 dd_subs a1 a4 a6
    ⟨show 6 + 1 ≤ R.frames by omega, show 8 + (5 + 11) + 270 ≤ R.locals by omega⟩ ⟨show 2 * k + 2 ≤ R.cells by omega, show 32 * k + 16 ≤ R.slots by omega⟩ rfl a5 (fun q h => Or.inr h) (fun U locs1 v hW hF g1 g2 hS1 => ?_)
  have hAn : ∀ q, H.size ≤ q → ¬ am_isO E cnt q := by
    rintro q hq ⟨c', n', -, hn', rfl⟩
    have := ga_Hd_lt a2 (c := c') (n := n') hn'
    have hq : H.size ≤ E.1 c' n' := hq
    have this : E.1 c' n' < H.size := this
    omega
  have htx := am_sub_txt (b := b) h0 h1 ha hab hb9
  have hkeep : ga_keep (am_YS E cnt U0) H U.heap := ⟨g1, fun q h1 h2 => g2 q h1⟩
  obtain ⟨rr, rfl, hSS⟩ : ∃ rr, v = some (.ref rr) ∧ am_SSd (am_isO E cnt) U0 U.heap rr (x + 1000 * a + 1000000 * (b + 1)) := by
    rcases hF with ⟨e1, e2, rfl⟩ | hF
    · refine ⟨o, rfl, ?_⟩
      have he : am_txt (x + 1000 * a + 1000000 * (b + 1)) = am_txt x := by
        rw [htx, e1, e2, List.take_length, List.drop_zero]
      have := hs.kept (H1 := U.heap) (fun q h1 h2 => g2 q h1)
      unfold am_SSd at this ⊢
      rw [he]
      exact this
    · obtain ⟨rr, q1, q2⟩ := am_made (A := am_isO E cnt) (x := x + 1000 * a + 1000000 * (b + 1)) S.2.2.2.2 hSx'.2.2.2.1 hW.alike hAn (by omega) (by rw [htx, List.length_drop, List.length_take]; omega) (fun j hj => by rw [htx, am_sub_get hlx hj]) hF
      exact ⟨rr, q1, q2.moved hSx'.1.symm⟩
  refine W.widen (k := 2 * (k + 1)) (n := 32 * (k + 1)) (by omega) (by omega) ?_
  exact kk U.heap locs1 [.ref rr] (ga_Hd_more hT a2 g2) hkeep (by rw [if_neg (by decide)]; exact ⟨_, rfl, Or.inl ⟨rfl, rr, rfl, hSS⟩⟩) hS1
end

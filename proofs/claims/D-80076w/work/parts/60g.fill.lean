/-! loops that fill an array with new objects -/
section
variable {p : Program} {l : Launch} {e : Env} {R : Room} {s : State} {m : MethodId} {args : Array Value} {below : List Frame} {meth : Method} {c : Code} {H : Heap} {locs : List Loc} {cells slots : Nat} {Q : State → Prop}
theorem gk_Wget {cc : ByteArray} {pc nL : Nat} {ls : Array Slot} {rest : List Value} {D : va_G} {a : Nat} {own C : String} {T : u_T} {N ci index : Nat} (S : CallFix p m c cc nL s args ga_tb own) (hK : va_K D am_cl [] s) {V : Nat → Value} (ho : t_OB a (D.1 ci) N (D.2 ci) H V) (hc : am_cl[ci]? = some (C, T, N)) (k : Nat) (hk : k < N) (hTC : (T k).1 = C)
    (hlink : Cond.fieldLink own index C (T k).2.1 (T k).2.2.1 ∈ ga_tb ∨ ∃ host, Cond.fieldLinkNest own index C (T k).2.1 (T k).2.2.1 host ∈ ga_tb) (hdg : decode cc pc = .ok (.getfield index, 3))
    (kk : W p l e R s m args below meth c H locs cells slots Q (F0 m (pc + 3) ls (V k :: rest))) : W p l e R s m args below meth c H locs cells slots Q (F0 m pc ls (.ref a :: rest)) := by
  obtain ⟨hx, hb, hml, hown, hts⟩ := S
  obtain ⟨hin, hnm, ty, hty⟩ := gk_cls hc
  have hfs : ((List.range N).map V)[k]? = some (V k) := by simp [hk]
  rcases hlink with hl | ⟨host, hl⟩
  · exact va_get (ref := C) hx hb hts hin hown hK (ga_P1 hc ho) 0 rfl hc k hk (hts _ hl) (by rw [hTC]; exact fun _ z => z) hfs hdg kk
  · exact va_getN (ref := C) hx hb hts hin hown hK (ga_P1 hc ho) 0 rfl hc k hk (hts _ hl) (by rw [hTC]; exact fun _ z => z) hfs hdg kk
theorem gk_Waast {cc : ByteArray} {pc nL : Nat} {ls : Array Slot} {rest : List Value} {K : Nat → ClassId} {D : va_G} {own : String} {C : String} {T : u_T} {Nf ci e0 N b v i : Nat} {f : Nat → Value} (S : CallFix p m c cc nL s args ga_tb own) (hSt : gk_S K D s) (hAO : va_AO C s) (he : e0 < 9) (hty : gk_ty e0 = .object C) (hc : am_cl[ci]? = some (C, T, Nf)) (hb0 : H[b]? = some (arrV (K e0) N f)) (hv : ∃ cell : Cell, H[v]? = some cell ∧ cell.cls = D.1 ci ∧ cell.vm = .none) (hi : i < N) (hN : N < 100000) (hdg : decode cc pc = .ok (.aastore, 1))
    (kk : ∀ (H1 : Heap), H1[b]? = some (arrV (K e0) N (updV f i (.ref v))) → H1.size = H.size → (∀ q : Nat, q ≠ b → H1[q]? = H[q]?) → W p l e R s m args below meth c H1 (locs ++ [⟨b, i⟩]) cells slots Q (F0 m (pc + 1) ls rest)) : W p l e R s m args below meth c H locs cells slots Q (F0 m pc ls (.ref v :: .int (nI i) :: .ref b :: rest)) := by
  obtain ⟨hx, hb, hml, hown, hts⟩ := S
  obtain ⟨comp, cA, kA, h1, -, h3, h4, h5⟩ := Cond.arrayOver_spec hAO
  have ek : K e0 = cA := by
    have := hSt.2.1 e0 he
    rw [hty] at this
    exact Option.some.inj (this.symm.trans h5)
  have hcls := (hSt.2.2.1.1 ci _ hc).2
  have hcomp : comp = D.1 ci := Option.some.inj (h1.symm.trans hcls.1)
  subst hcomp
  obtain ⟨kC, hkC, -⟩ := hcls.2
  obtain ⟨cellV, g1, g2, g3⟩ := hv
  have cl : (nI i).toNatClampNeg = i := nI_clamp (by omega)
  refine W.aast hx hb hb0 (fun q h => by cases h) (fun h => by cases h) (show s.vm.classes[K e0]? = some kA by rw [ek]; exact h3) h4 rfl hkC ⟨nI_pos (by omega), by rw [arrV_size, cl]; exact hi⟩ g1 (fun q h => by rw [g3] at h; cases h) (by rw [g2]; exact hkC) (by rw [g2]; exact va_assign hcls) rfl rfl hdg fun H1 e1 z1 q1 => ?_
  rw [cl, arrV_store] at e1
  rw [cl]
  exact kk H1 e1 z1 q1
/-- the loop at L: for (i ..) array[i] = new C() -/
theorem gk_fill {y : jm_N} {n k cs ss nL : Nat} {K : Nat → ClassId} {D : va_G} {G : Nat → Heap → Prop} {cc : ByteArray} {own C C0 : String} {T T0 : u_T} {Nf N0 ci c0 : Nat} {A : Nat → Prop} {H0 : Heap} {a b kf e0 N L fi idx idx2 : Nat} {V : Nat → Value} {off1 off2 : Int}
    (S : CallFix p m c cc nL s args ga_tb own) (hC : ∀ h, gk_C l y n k cs ss h (h + 1) [] K D (fun U => gk_ob0 D ci h U.heap) (fun H => H.size = h + (1 + cs) ∧ G h H)) (hy : jm_good y) (hnm : y.1.name = "<init>") (hrt : y.2.2.2 = none) (hSt : gk_S K D s) (hc : am_cl[ci]? = some (C, T, Nf)) (hcl : Cond.classLink own idx C ∈ ga_gw) (hins : Cond.instantiable C Nf ∈ ga_gw) (hini : Cond.initialized C ∈ ga_gw)
    (hl : Cond.methodLink own idx2 y.1 ∈ ga_gw ∨ ∃ host, Cond.methodLinkNest own idx2 y.1 host ∈ ga_nw) (hin : Cond.instanceMethod y.1 ∈ ga_gw) (hdesc : (parseMethodDescriptor y.1.desc).map (fun d => d.parameters.length) = some 0)
    (hAO : va_AO C s) (he : e0 < 9) (hty : gk_ty e0 = .object C) (hc0 : am_cl[c0]? = some (C0, T0, N0)) (hkf : kf < N0) (hTC : (T0 kf).1 = C0) (hlink : Cond.fieldLink own fi C0 (T0 kf).2.1 (T0 kf).2.2.1 ∈ ga_tb ∨ ∃ host, Cond.fieldLinkNest own fi C0 (T0 kf).2.1 (T0 kf).2.2.1 host ∈ ga_tb) (hV : V kf = .ref b) (hab : a ≠ b) (hN : N < 128) (hnL : 1 < nL)
    (hGk : ∀ h H H', G h H → (∀ q : Nat, h ≤ q → q < h + (1 + cs) → H'[q]? = H[q]?) → G h H') (hGo : ∀ h H, G h H → ∃ cell : Cell, H[h]? = some cell ∧ cell.cls = D.1 ci ∧ cell.vm = .none)
    (d0 : decode cc L = .ok (.iload_n 1, 1)) (d1 : gk_pu cc (L + 1) N = 2) (d3 : decode cc (L + 3) = .ok (.if_icmp .ge off1, 3)) (o1 : ((L + 3 : Nat) : Int) + off1 = ((L + 25 : Nat) : Int)) (d6 : decode cc (L + 6) = .ok (.aload_n 0, 1)) (d7 : decode cc (L + 7) = .ok (.getfield fi, 3)) (d10 : decode cc (L + 10) = .ok (.iload_n 1, 1)) (d11 : decode cc (L + 11) = .ok (.new idx, 3)) (d14 : decode cc (L + 14) = .ok (.dup, 1)) (d15 : decode cc (L + 15) = .ok (.invokespecial idx2, 3)) (d18 : decode cc (L + 18) = .ok (.aastore, 1)) (d19 : decode cc (L + 19) = .ok (.iinc 1 1, 3)) (d22 : decode cc (L + 22) = .ok (.goto off2, 3)) (o2 : ((L + 22 : Nat) : Int) + off2 = (L : Int))
    (hR : n + 1 ≤ R.frames ∧ 8 + (y.2.2.1 + 11) + k ≤ R.locals) (hA2 : ∀ q, H0.size ≤ q → A q) (hAb : A b) {h0 : Nat} (hbh : b < h0) (hah : a < h0) {c1 s1 : Nat} (hrc : c1 + N * (1 + cs) ≤ R.cells) (hrs : s1 + N * (Nf + ss) ≤ R.slots) {H9 : Heap}
    (kk : ∀ (H1 : Heap) (locs1 : List Loc) (ls1 : Array Slot), lv_has ls1 nL [(1, .int (nI N)), (0, .ref a)] → H1.size = h0 + N * (1 + cs) → H1[b]? = some (arrV (K e0) N (fun j => if j < N then .ref (h0 + j * (1 + cs)) else .null)) → (∀ j, j < N → G (h0 + j * (1 + cs)) H1) → (∀ q : Nat, q < h0 → q ≠ b → H1[q]? = H9[q]?) → va_S A H0 H1 locs1 → W p l e R s m args below meth c H1 locs1 (c1 + N * (1 + cs)) (s1 + N * (Nf + ss)) Q (F0 m (L + 25) ls1 [])) :
    ∀ (r i : Nat), i + r = N → ∀ (H1 : Heap) (locs1 : List Loc) (ls1 : Array Slot), lv_has ls1 nL [(1, .int (nI i)), (0, .ref a)] → H1.size = h0 + i * (1 + cs) → H1[b]? = some (arrV (K e0) N (fun j => if j < i then .ref (h0 + j * (1 + cs)) else .null)) → (∀ j, j < i → G (h0 + j * (1 + cs)) H1) → (∀ q : Nat, q < h0 → q ≠ b → H1[q]? = H9[q]?) → t_OB a (D.1 c0) N0 (D.2 c0) H9 V → va_S A H0 H1 locs1 → W p l e R s m args below meth c H1 locs1 (c1 + i * (1 + cs)) (s1 + i * (Nf + ss)) Q (F0 m L ls1 []) := by
  have S' := S
  obtain ⟨hx, hb, hml, hown, hts⟩ := S'
  intro r
  induction r with
  | zero =>
    intro i hi H1 locs1 ls1 hls z1 hb1 hg1 ho1 hobj hS
    have ei : i = N := by omega
    subst ei
    refine lv_iload_n hx hb d0 rfl (lv_at hls 0 rfl) ?_
    refine gk_push hx hb d1 (by decide) ?_
    exact lv_icmp_ge hx hb d3 o1 (fun _ => kk H1 locs1 ls1 hls z1 hb1 hg1 ho1 hS) (fun z => absurd (Int32.le_refl _) z)
  | succ r ih =>
    intro i hi H1 locs1 ls1 hls z1 hb1 hg1 ho1 hobj hS
    have hlt : i < N := by omega
    refine lv_iload_n hx hb d0 rfl (lv_at hls 0 rfl) ?_
    refine gk_push hx hb d1 (by decide) ?_
    refine lv_icmp_ge hx hb d3 o1 (fun z => absurd z (nI_ge hlt (by omega))) (fun _ => ?_)
    refine lv_aload_n hx hb d6 rfl (lv_at hls 1 rfl) ?_
    have hob1 : t_OB a (D.1 c0) N0 (D.2 c0) H1 V := hobj.kept (ho1 a hah hab)
    refine gk_Wget S hSt.2.2.1 hob1 hc0 kf hkf hTC hlink d7 ?_
    rw [hV]
    refine lv_iload_n hx hb d10 rfl (lv_at hls 0 rfl) ?_
    have mul : (i + 1) * (1 + cs) ≤ N * (1 + cs) := Nat.mul_le_mul_right _ hlt
    have mul2 : (i + 1) * (Nf + ss) ≤ N * (Nf + ss) := Nat.mul_le_mul_right _ hlt
    have e1 : (i + 1) * (1 + cs) = i * (1 + cs) + (1 + cs) := Nat.succ_mul _ _
    have e2 : (i + 1) * (Nf + ss) = i * (Nf + ss) + (Nf + ss) := Nat.succ_mul _ _
    refine gk_newc (rest := [.int (nI i), .ref b]) S hC hy hnm hrt hSt hc hcl hins hini hl hin hdesc hls.1 (by show 1 + (1 + 0) ≤ 7; decide) d11 d14 d15 hR (by omega) hS hA2 fun H2 locs2 f1 f2 f3 f4 => ?_
    have hb2 : H2[b]? = some (arrV (K e0) N (fun j => if j < i then .ref (h0 + j * (1 + cs)) else .null)) := by rw [f3 b (by omega)]; exact hb1
    refine gk_Waast S hSt hAO he hty hc hb2 (hGo _ _ f1.2) hlt (by omega) d18 fun H3 g1 g2 g3 => ?_
    refine lv_iinc hx hb d19 (k := 0) hls rfl (show nI i + Int32.ofInt 1 = nI (i + 1) by rw [nI_succ]; rfl) hnL rfl fun ls3 hls3 => ?_
    refine lv_goto hx hb d22 o2 ?_
    have f1s := f1.1
    rw [show c1 + i * (1 + cs) + (1 + cs) = c1 + (i + 1) * (1 + cs) by omega, show s1 + i * (Nf + ss) + (Nf + ss) = s1 + (i + 1) * (Nf + ss) by omega]
    refine ih (i + 1) (by omega) H3 _ ls3 hls3 (by rw [g2, f1s, z1]; omega) ?_ (fun j hj => ?_) (fun q q1 q2 => by rw [g3 q q2, f3 q (by omega)]; exact ho1 q q1 q2) hobj ?_
    · rw [g1, z1]
      congr 2
      funext j
      unfold updV
      show (if j = i then Value.ref (h0 + i * (1 + cs)) else if j < i then Value.ref (h0 + j * (1 + cs)) else .null) = _
      by_cases ej : j = i
      · rw [if_pos ej, if_pos (by omega), ej]
      · rw [if_neg ej]
        by_cases fj : j < i
        · rw [if_pos fj, if_pos (by omega)]
        · rw [if_neg fj, if_neg (by omega)]
    · by_cases ej : j = i
      · rw [ej]
        have := f1.2
        rw [z1] at this
        exact hGk _ _ _ this (fun q q1 q2 => g3 q (by omega))
      · have mj : (j + 1) * (1 + cs) ≤ i * (1 + cs) := Nat.mul_le_mul_right _ (by omega)
        have ej2 : (j + 1) * (1 + cs) = j * (1 + cs) + (1 + cs) := Nat.succ_mul _ _
        exact hGk _ _ _ (hg1 j (by omega)) (fun q q1 q2 => by rw [g3 q (by omega), f3 q (by omega)])
    · exact f4.put g2 g3 hAb
end

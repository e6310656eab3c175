/-! the library's members as AM's prims: arraycopy -/
section
variable {p : Program} {l : Launch} {e : Env} {R : Room} {s : State} {m : MethodId} {args : Array Value} {below : List Frame} {meth : Method} {c : Code} {H : Heap} {locs : List Loc} {cells slots : Nat} {Q : State → Prop} {cc : ByteArray} {pc : Nat} {ls : Array Slot} {rest : List Value} {own : String} {index : Nat}
theorem jm_cpyi {a0 a1 n0 n1 : Nat} {c0 c1 : ClassId} {f g : Nat → Int32} {ty : FieldType} (hx : p.tables.exec = Jvm.exec) (hb : c.code = cc) (hml : c.maxLocals = ls.size) (hown : s.vm.findClass own = some m.cls) (hlink : (Cond.methodLink own index arraycopyName).before args s = true) (hnat : (Cond.native arraycopyName).before args s = true) (hstat : (Cond.static arraycopyName).before args s = true) (hini : (Cond.initialized "java/lang/System").before args s = true)
    (hc0 : H[a0]? = some (arrV c0 n0 (fun j => .int (f j)))) (hc1 : H[a1]? = some (arrV c1 n1 (fun j => .int (g j)))) (hA0 : ArrOfT s c0 ty) (hA1 : ArrOfT s c1 ty) (hprim : refKind ty = false)
    {sp dp n : Int32} (h1 : ¬ sp < 0) (h2 : ¬ dp < 0) (h3 : ¬ n < 0) (h4 : sp.toNatClampNeg + n.toNatClampNeg ≤ n0) (h5 : dp.toNatClampNeg + n.toNatClampNeg ≤ n1) (hfit : ∀ i, i < n.toNatClampNeg → fits ty (.int (f (sp.toNatClampNeg + i))) = true)
    (hframes : 1 ≤ R.frames) (hlocals : (rest.map fun v => v.category).sum + (nativeFrameWords "java/lang/System" "arraycopy" 5 + 11) ≤ R.locals) (hdg : decode cc pc = .ok (.invokestatic index, 3))
    (kk : ∀ (H1 : Heap) (locs1 : List Loc), H1[a1]? = some (arrV c1 n1 (fun j => .int (va_cpy f g sp.toNatClampNeg dp.toNatClampNeg n.toNatClampNeg j))) → H1.size = H.size → (∀ q : Nat, q ≠ a1 → H1[q]? = H[q]?) → (∀ l ∈ locs1, l ∈ locs ∨ l.base = a1) → W p l e R s m args below meth c H1 locs1 cells slots Q (F0 m (pc + 3) ls rest)) : W p l e R s m args below meth c H locs cells slots Q (F0 m pc ls (.int n :: .int dp :: .ref a1 :: .int sp :: .ref a0 :: rest)) := by
  have nn : ∀ z : Int32, ¬ z < 0 → z.toInt = (z.toNatClampNeg : Int) := by
    intro z hz
    have hz0 : (0 : Int) ≤ z.toInt := by
      have := Int32.not_lt.mp hz
      simpa using Int32.le_iff_toInt_le.mp this
    show z.toInt = ((z.toInt.toNat : Nat) : Int)
    omega
  intro T hT X
  obtain ⟨-, k0, hk0, cm0, hkk0⟩ := hA0 n0 (fun j => .int (f j))
  obtain ⟨-, k1, hk1, cm1, hkk1⟩ := hA1 n1 (fun j => .int (g j))
  obtain ⟨vm', X', step⟩ := X.arraycopy hx hown hlink hnat hstat hini (src := a0) (dst := a1) (cs := arrV c0 n0 (fun j => .int (f j))) (cd := arrV c1 n1 (fun j => .int (g j))) (srcPos := sp) (destPos := dp) (n := n) (by rw [hT]; exact hc0) (by rw [hT]; exact hc1)
    (fun _ h => by cases h) (fun _ h => by cases h) (fun h => by cases h) (fun h => by cases h) hk0 hk1 hkk0 hkk1 (by simp [hprim]) h1 h2 h3
    (by rw [nn sp h1, nn n h3]; show ¬ _ > ((arrV c0 n0 (fun j => .int (f j))).slots.size : Int); rw [arrV_size]; omega)
    (by rw [nn dp h2, nn n h3]; show ¬ _ > ((arrV c1 n1 (fun j => .int (g j))).slots.size : Int); rw [arrV_size]; omega)
    (fun vm₁ _ i hi => by
      have e : (arrV c0 n0 (fun j => .int (f j))).slots.getD (sp.toNatClampNeg + i) .null = .int (f (sp.toNatClampNeg + i)) := by
        rw [Array.getD_eq_getD_getElem?, arrV_read _ _ (by omega)]
        rfl
      refine ⟨?_, ?_⟩
      · rw [e]
        exact hfit i hi
      · rw [e]
        exact trivial)
    (g := F0 m pc ls (.int n :: .int dp :: .ref a1 :: .int sp :: .ref a0 :: rest)) rfl (by rw [hml]) (rest := rest) rfl (by rw [hb]; exact hdg) hframes (by show 2 * 0 + _ + _ ≤ _; omega)
  have e1 : copied (arrV c0 n0 (fun j => .int (f j))) (arrV c1 n1 (fun j => .int (g j))) sp dp n = arrV c1 n1 (fun j => .int (va_cpy f g sp.toNatClampNeg dp.toNatClampNeg n.toNatClampNeg j)) := va_copied (fun z => .int z) c0 c1 f g h4
  rw [e1] at X' step
  have hl : a1 < H.size := (Array.getElem?_eq_some_iff.mp hc1).1
  generalize hce : arrV c1 n1 (fun j => .int (va_cpy f g sp.toNatClampNeg dp.toNatClampNeg n.toNatClampNeg j)) = ce at X' step kk
  have hheap : ((T.setVm vm').setCell a1 ce).heap = H.setIfInBounds a1 ce := by rw [← hT]; rfl
  have oq : ∀ q : Nat, q ≠ a1 → (H.setIfInBounds a1 ce)[q]? = H[q]? := fun q hq => by simp [Array.getElem?_setIfInBounds, Ne.symm hq]
  obtain ⟨t, b1, b2⟩ := kk _ _ (show (H.setIfInBounds a1 ce)[a1]? = some ce by simp [Array.getElem?_setIfInBounds, hl]) (by simp) oq (fun q hq => by
      rcases List.mem_append.mp hq with h | h
      · exact Or.inl h
      · obtain ⟨z, -, hz⟩ := List.mem_map.mp h
        rw [← hz]
        exact Or.inr rfl) _ hheap X'
  exact ⟨t, step t b1, b2⟩
theorem jm_cpyl {a0 a1 n0 n1 : Nat} {c0 c1 : ClassId} {f g : Nat → Int64} {ty : FieldType} (hx : p.tables.exec = Jvm.exec) (hb : c.code = cc) (hml : c.maxLocals = ls.size) (hown : s.vm.findClass own = some m.cls) (hlink : (Cond.methodLink own index arraycopyName).before args s = true) (hnat : (Cond.native arraycopyName).before args s = true) (hstat : (Cond.static arraycopyName).before args s = true) (hini : (Cond.initialized "java/lang/System").before args s = true)
    (hc0 : H[a0]? = some (arrV c0 n0 (fun j => .long (f j)))) (hc1 : H[a1]? = some (arrV c1 n1 (fun j => .long (g j)))) (hA0 : ArrOfT s c0 ty) (hA1 : ArrOfT s c1 ty) (hprim : refKind ty = false)
    {sp dp n : Int32} (h1 : ¬ sp < 0) (h2 : ¬ dp < 0) (h3 : ¬ n < 0) (h4 : sp.toNatClampNeg + n.toNatClampNeg ≤ n0) (h5 : dp.toNatClampNeg + n.toNatClampNeg ≤ n1) (hfit : ∀ i, i < n.toNatClampNeg → fits ty (.long (f (sp.toNatClampNeg + i))) = true)
    (hframes : 1 ≤ R.frames) (hlocals : (rest.map fun v => v.category).sum + (nativeFrameWords "java/lang/System" "arraycopy" 5 + 11) ≤ R.locals) (hdg : decode cc pc = .ok (.invokestatic index, 3))
    (kk : ∀ (H1 : Heap) (locs1 : List Loc), H1[a1]? = some (arrV c1 n1 (fun j => .long (va_cpy f g sp.toNatClampNeg dp.toNatClampNeg n.toNatClampNeg j))) → H1.size = H.size → (∀ q : Nat, q ≠ a1 → H1[q]? = H[q]?) → (∀ l ∈ locs1, l ∈ locs ∨ l.base = a1) → W p l e R s m args below meth c H1 locs1 cells slots Q (F0 m (pc + 3) ls rest)) : W p l e R s m args below meth c H locs cells slots Q (F0 m pc ls (.int n :: .int dp :: .ref a1 :: .int sp :: .ref a0 :: rest)) := by
  have nn : ∀ z : Int32, ¬ z < 0 → z.toInt = (z.toNatClampNeg : Int) := by
    intro z hz
    have hz0 : (0 : Int) ≤ z.toInt := by
      have := Int32.not_lt.mp hz
      simpa using Int32.le_iff_toInt_le.mp this
    show z.toInt = ((z.toInt.toNat : Nat) : Int)
    omega
  intro T hT X
  obtain ⟨-, k0, hk0, cm0, hkk0⟩ := hA0 n0 (fun j => .long (f j))
  obtain ⟨-, k1, hk1, cm1, hkk1⟩ := hA1 n1 (fun j => .long (g j))
  obtain ⟨vm', X', step⟩ := X.arraycopy hx hown hlink hnat hstat hini (src := a0) (dst := a1) (cs := arrV c0 n0 (fun j => .long (f j))) (cd := arrV c1 n1 (fun j => .long (g j))) (srcPos := sp) (destPos := dp) (n := n) (by rw [hT]; exact hc0) (by rw [hT]; exact hc1)
    (fun _ h => by cases h) (fun _ h => by cases h) (fun h => by cases h) (fun h => by cases h) hk0 hk1 hkk0 hkk1 (by simp [hprim]) h1 h2 h3
    (by rw [nn sp h1, nn n h3]; show ¬ _ > ((arrV c0 n0 (fun j => .long (f j))).slots.size : Int); rw [arrV_size]; omega)
    (by rw [nn dp h2, nn n h3]; show ¬ _ > ((arrV c1 n1 (fun j => .long (g j))).slots.size : Int); rw [arrV_size]; omega)
    (fun vm₁ _ i hi => by
      have e : (arrV c0 n0 (fun j => .long (f j))).slots.getD (sp.toNatClampNeg + i) .null = .long (f (sp.toNatClampNeg + i)) := by
        rw [Array.getD_eq_getD_getElem?, arrV_read _ _ (by omega)]
        rfl
      refine ⟨?_, ?_⟩
      · rw [e]
        exact hfit i hi
      · rw [e]
        exact trivial)
    (g := F0 m pc ls (.int n :: .int dp :: .ref a1 :: .int sp :: .ref a0 :: rest)) rfl (by rw [hml]) (rest := rest) rfl (by rw [hb]; exact hdg) hframes (by show 2 * 0 + _ + _ ≤ _; omega)
  have e1 : copied (arrV c0 n0 (fun j => .long (f j))) (arrV c1 n1 (fun j => .long (g j))) sp dp n = arrV c1 n1 (fun j => .long (va_cpy f g sp.toNatClampNeg dp.toNatClampNeg n.toNatClampNeg j)) := va_copied (fun z => .long z) c0 c1 f g h4
  rw [e1] at X' step
  have hl : a1 < H.size := (Array.getElem?_eq_some_iff.mp hc1).1
  generalize hce : arrV c1 n1 (fun j => .long (va_cpy f g sp.toNatClampNeg dp.toNatClampNeg n.toNatClampNeg j)) = ce at X' step kk
  have hheap : ((T.setVm vm').setCell a1 ce).heap = H.setIfInBounds a1 ce := by rw [← hT]; rfl
  have oq : ∀ q : Nat, q ≠ a1 → (H.setIfInBounds a1 ce)[q]? = H[q]? := fun q hq => by simp [Array.getElem?_setIfInBounds, Ne.symm hq]
  obtain ⟨t, b1, b2⟩ := kk _ _ (show (H.setIfInBounds a1 ce)[a1]? = some ce by simp [Array.getElem?_setIfInBounds, hl]) (by simp) oq (fun q hq => by
      rcases List.mem_append.mp hq with h | h
      · exact Or.inl h
      · obtain ⟨z, -, hz⟩ := List.mem_map.mp h
        rw [← hz]
        exact Or.inr rfl) _ hheap X'
  exact ⟨t, step t b1, b2⟩
end
theorem ga_fv_copy (q : Nat × Nat × Int) (n' : Int) (σ : ga_S) (Fa : Nat) (n sp : Int) (Fb : Nat) (m dp len : Int) (h : q.1 < 999 → q.2.1 ≠ Fb) : ga_fv q n' (am_copy σ Fa n sp Fb m dp len) = ga_fv q n' σ := by
  unfold ga_fv am_copy
  by_cases h1 : q.1 < 999
  · simp only [h1, if_true]
    rw [if_neg (fun z => h h1 z.1)]
  · simp only [h1, if_false]
theorem ga_av_copy (q : Nat × Int × Nat × Nat × Int × Int) (n' i' : Int) (σ : ga_S) (Fa : Nat) (n sp : Int) (Fb : Nat) (m dp len : Int) : ga_av q n' i' (am_copy σ Fa n sp Fb m dp len) = if q.2.2.1 < 999 ∧ q.2.2.2.1 = Fb ∧ n' = m ∧ dp ≤ i' ∧ i' < dp + len then (q.2.2.1, σ Fa n (i' - dp + sp)) else ga_av q n' i' σ := by
  unfold ga_av am_copy
  by_cases h : q.2.2.1 < 999
  · simp only [h, if_true, true_and]
    split <;> rfl
  · simp only [h, if_false, false_and]
/-- the heap holds the store after a copy -/
theorem ga_Hd_copy {Y : ga_Y} (hT : ga_TB Y) {σ : ga_S} {H H1 : Heap} {c1 c2 n m : Nat} {sp dp len : Int} (hd : ga_Hd Y σ H) (hn : n < Y.2.1 c1) (hm : m < Y.2.1 c2) (hc1 : Y.2.2.2.2.1[c1]? = none) (hc2 : Y.2.2.2.2.1[c2]? = none) (ht1 : (Y.2.2.1.2.2 c1).2.2.1 < 999) (ht : (Y.2.2.1.2.2 c1).2.2.1 = (Y.2.2.1.2.2 c2).2.2.1) (hk : (Y.2.2.1.2.2 c1).1 = (Y.2.2.1.2.2 c2).1)
    (hsp : 0 ≤ sp) (hdp : 0 ≤ dp) (h1 : sp + len ≤ (Y.2.2.1.2.2 c1).2.1)
    (ho : H1[Y.1.1 c2 m]? = some (arrV (Y.1.2.1 c2) (Y.2.2.1.2.2 c2).2.1.toNat (fun i => ga_cv Y.1 (ga_av (Y.2.2.1.2.2 c2) m i (am_copy σ (Y.2.2.1.2.2 c1).2.2.2.1 n sp (Y.2.2.1.2.2 c2).2.2.2.1 m dp len))))) (hq : ∀ q : Nat, q ≠ Y.1.1 c2 m → H1[q]? = H[q]?) :
    ga_Hd Y (am_copy σ (Y.2.2.1.2.2 c1).2.2.2.1 n sp (Y.2.2.1.2.2 c2).2.2.2.1 m dp len) H1 := by
  obtain ⟨hin, ⟨inv, hi1, hi2⟩, -⟩ := hT
  have hik := (hi2 c2 hc2 (by omega) (by rw [← ht]; exact ht1)).1
  have src : ∀ i : Int, dp ≤ i → i < dp + len → ga_av (Y.2.2.1.2.2 c1) n (i - dp + sp) σ = ((Y.2.2.1.2.2 c2).2.2.1, σ (Y.2.2.1.2.2 c1).2.2.2.1 n (i - dp + sp)) := by
    intro i h2 h3
    unfold ga_av
    rw [if_pos ht1, ht]
  have cases_ : ∀ (c' n' : Nat) (i : Int), Y.2.2.2.2.1[c']? = none → n' < Y.2.1 c' → ga_av (Y.2.2.1.2.2 c') n' i (am_copy σ (Y.2.2.1.2.2 c1).2.2.2.1 n sp (Y.2.2.1.2.2 c2).2.2.2.1 m dp len) = ga_av (Y.2.2.1.2.2 c') n' i σ ∨
      (c' = c2 ∧ n' = m ∧ dp ≤ i ∧ i < dp + len ∧ ga_av (Y.2.2.1.2.2 c') n' i (am_copy σ (Y.2.2.1.2.2 c1).2.2.2.1 n sp (Y.2.2.1.2.2 c2).2.2.2.1 m dp len) = ga_av (Y.2.2.1.2.2 c1) n (i - dp + sp) σ) := by
    intro c' n' i hq' hn'
    rw [ga_av_copy]
    by_cases z : (Y.2.2.1.2.2 c').2.2.1 < 999 ∧ (Y.2.2.1.2.2 c').2.2.2.1 = (Y.2.2.1.2.2 c2).2.2.2.1 ∧ (n' : Int) = m ∧ dp ≤ i ∧ i < dp + len
    · obtain ⟨z1, z2, z3, z4, z5⟩ := z
      have := (hi2 c' hq' (by omega) z1).1
      rw [z2, hik] at this
      have e1 : c2 = c' := congrArg Prod.fst this
      right
      refine ⟨e1.symm, by omega, z4, z5, ?_⟩
      rw [if_pos ⟨z1, z2, z3, z4, z5⟩, src i z4 z5, e1]
    · left
      rw [if_neg z]
  intro c' n' hn'
  refine ⟨fun q hq' => ?_, fun hq' => ?_, fun e8 hq' i hi => ?_⟩
  · obtain ⟨k1, k2⟩ := (hd c' n' hn').1 q hq'
    have hne : Y.1.1 c' n' ≠ Y.1.1 c2 m := fun e => by
      have := (hin c' n' c2 m hn' hm e).1
      rw [this, hc2] at hq'
      cases hq'
    have key : ∀ k', k' < q.2.2 → ga_fv (Y.2.2.1.2.1 c' k') n' (am_copy σ (Y.2.2.1.2.2 c1).2.2.2.1 n sp (Y.2.2.1.2.2 c2).2.2.2.1 m dp len) = ga_fv (Y.2.2.1.2.1 c' k') n' σ := by
      intro k' hk'
      refine ga_fv_copy _ _ _ _ _ _ _ _ _ _ (fun z1 z2 => ?_)
      have := (hi1 c' q k' hq' hk' z1).1
      rw [z2, hik] at this
      have e2 : 0 = k' + 1 := congrArg Prod.snd this
      omega
    refine ⟨(k1.kept (hq _ hne)).to (fun k' hk' => by rw [key k' hk']), fun k' hk' => ?_⟩
    rw [key k' hk']
    exact k2 k' hk'
  · obtain ⟨k1, k2⟩ := (hd c' n' hn').2.1 hq'
    refine ⟨?_, fun i hi => ?_⟩
    · by_cases hh : c' = c2 ∧ n' = m
      · obtain ⟨rfl, rfl⟩ := hh
        exact ho
      · have hne : Y.1.1 c' n' ≠ Y.1.1 c2 m := fun e => hh (hin c' n' c2 m hn' hm e)
        rw [hq _ hne, k1]
        congr 2
        funext i
        rcases cases_ c' n' i hq' hn' with z | ⟨z1, z2, -⟩
        · rw [z]
        · exact absurd ⟨z1, z2⟩ hh
    · rcases cases_ c' n' i hq' hn' with z | ⟨z1, z2, z3, z4, z⟩
      · rw [z]; exact k2 i hi
      · rw [z]
        have := ((hd c1 n hn).2.1 hc1).2 ((i : Int) - dp + sp).toNat (by omega)
        rw [show ((((i : Int) - dp + sp).toNat : Nat) : Int) = (i : Int) - dp + sp by omega] at this
        exact this
  · rcases cases_ c' n' i hq' hn' with z | ⟨z1, z2, z3, z4, z⟩
    · rw [z]; exact (hd c' n' hn').2.2 e8 hq' i hi
    · rw [z]
      subst z1
      have := (hd c1 n hn).2.2 (by rw [hk]; exact e8) hc1 ((i : Int) - dp + sp).toNat (by omega)
      rw [show ((((i : Int) - dp + sp).toNat : Nat) : Int) = (i : Int) - dp + sp by omega] at this
      exact this

/-! a row for multianewarray with two dimensions -/
/-- the outer array at the end of H0, then i rows -/
def gm_at (H0 H : Heap) (cA cB : ClassId) (N M : Nat) (dv : Value) (i : Nat) : Prop :=
  H.size = H0.size + 1 + i ∧ H[H0.size]? = some (arrV cA N (fun j => if j < i then .ref (H0.size + 1 + j) else .null)) ∧
  (∀ j : Nat, j < i → H[H0.size + 1 + j]? = some (arrV cB M (fun _ => dv))) ∧ ∀ q : Nat, q < H0.size → H[q]? = H0[q]?
theorem gm_0 (H0 : Heap) (cA cB : ClassId) (N M : Nat) (dv : Value) : gm_at H0 (H0.push (arrV cA N (fun _ => .null))) cA cB N M dv 0 := by
  refine ⟨by rw [Array.size_push], ?_, fun j hj => absurd hj (Nat.not_lt_zero _), fun q hq => by rw [Array.getElem?_push, if_neg (Nat.ne_of_lt hq)]⟩
  rw [Array.getElem?_push_size]
  rfl
theorem gm_s {H0 H : Heap} {cA cB : ClassId} {N M : Nat} {dv : Value} {i : Nat} (h : gm_at H0 H cA cB N M dv i) : gm_at H0 ((H.push (arrV cB M (fun _ => dv))).setIfInBounds H0.size (arrV cA N (fun j => if j < i + 1 then .ref (H0.size + 1 + j) else .null))) cA cB N M dv (i + 1) := by
  obtain ⟨h1, h2, h3, h4⟩ := h
  have lt : H0.size < (H.push (arrV cB M (fun _ => dv))).size := by rw [Array.size_push]; omega
  have ot : ∀ q : Nat, q ≠ H0.size → ((H.push (arrV cB M (fun _ => dv))).setIfInBounds H0.size (arrV cA N (fun j => if j < i + 1 then .ref (H0.size + 1 + j) else .null)))[q]? = (H.push (arrV cB M (fun _ => dv)))[q]? := fun q hq => by
    rw [Array.getElem?_setIfInBounds, if_neg (Ne.symm hq)]
  refine ⟨by rw [Array.size_setIfInBounds, Array.size_push]; omega, ?_, fun j hj => ?_, fun q hq => ?_⟩
  · rw [Array.getElem?_setIfInBounds, if_pos rfl, if_pos lt]
  · rw [ot _ (by omega)]
    by_cases e : j = i
    · rw [e, ← h1, Array.getElem?_push_size]
    · rw [Array.getElem?_push, if_neg (by omega)]
      exact h3 j (by omega)
  · rw [ot q (by omega), Array.getElem?_push, if_neg (by omega)]
    exact h4 q hq
theorem gm_upd {N i : Nat} {cA : ClassId} {h0 : Nat} : (arrV cA N (fun j => if j < i then Value.ref (h0 + 1 + j) else .null)).setSlot i (.ref (h0 + 1 + i)) = arrV cA N (fun j => if j < i + 1 then .ref (h0 + 1 + j) else .null) := by
  rw [arrV_store]
  congr 1
  funext j
  unfold updV
  by_cases e : j = i
  · rw [if_pos e, if_pos (by omega), e]
  · rw [if_neg e]
    show (if j < i then Value.ref (h0 + 1 + j) else .null) = _
    by_cases f : j < i
    · rw [if_pos f, if_pos (by omega)]
    · rw [if_neg f, if_neg (by omega)]
section
variable {E : CtlPost} {e : Env} {d : Bool} {acts : List Action} {S : State}
theorem gm_row {cB cc : ClassId} {kc : Class} {ty : FieldType} {k : Int32} (hkc : S.vm.classes[cB]? = some kc) (hkind : kc.kind = .array cc ty) (hk : ¬ k < 0) (hl : ¬ k.toNatClampNeg > e.platform.arrayLengthLimit) (hh : ¬ k.toNatClampNeg * componentBytes ty > e.platform.maxHeapBytes) (hdf : fits ty (defaultValue ty) = true)
    (h1 : S.heap.size < e.platform.maxCells) (h2 : S.slotsUsed + k.toNatClampNeg ≤ e.platform.maxSlots) {Q : Addr → Pre} (hq : ∀ acts', Q S.heap.size d acts' (S.pushCell (arrV cB k.toNatClampNeg (fun _ => defaultValue ty)))) :
    wp (Jvm.Op.multianewarray.make cB [k]) Q E e d acts S := by
  rw [Jvm.Op.multianewarray.make]
  simp only [wp_bind', W.ite, hk, if_false, wp_pure', W.theClass, hkc, hkind, Option.some.injEq, exists_eq_left']
  refine W.newArray_of hkc hkind hl hh h1 h2 hdf fun acts' => ?_
  rw [show ({ cls := cB, slots := Array.replicate k.toNatClampNeg (defaultValue ty) } : Cell) = arrV cB k.toNatClampNeg (fun _ => defaultValue ty) from arrV_new _ _ _]
  exact hq acts'
end
section
variable {p : Program} {l : Launch} {e : Env} {R : Room} {s : State} {m : MethodId} {args : Array Value} {below : List Frame} {meth : Method} {c : Code} {H : Heap} {locs : List Loc} {cells slots : Nat} {Q : State → Prop}
/-- the state behind i rows -/
def gm_f (T : State) (cA cB : ClassId) (N M : Nat) (dv : Value) : Nat → State
  | 0 => T.pushCell (arrV cA N (fun _ => .null))
  | i + 1 => ((gm_f T cA cB N M dv i).pushCell (arrV cB M (fun _ => dv))).setCell T.heap.size (arrV cA N (fun j => if j < i + 1 then .ref (T.heap.size + 1 + j) else .null))
theorem gm_ff (T : State) (cA cB : ClassId) (N M : Nat) (dv : Value) : ∀ i, gm_at T.heap (gm_f T cA cB N M dv i).heap cA cB N M dv i ∧ (gm_f T cA cB N M dv i).vm = T.vm ∧ (gm_f T cA cB N M dv i).slotsUsed = T.slotsUsed + N + i * M
  | 0 => ⟨gm_0 _ _ _ _ _ _, rfl, by simp [gm_f, arrV_size]⟩
  | i + 1 => by
    obtain ⟨a, b, d⟩ := gm_ff T cA cB N M dv i
    refine ⟨gm_s a, b, ?_⟩
    have : (gm_f T cA cB N M dv (i + 1)).slotsUsed = (gm_f T cA cB N M dv i).slotsUsed + M := by
      simp [gm_f, arrV_size]
    rw [this, d, Nat.succ_mul]; omega
theorem gm_fX {T : State} (X : Stand p l e R s m args below meth c T locs cells slots) (cA cB : ClassId) (N M : Nat) (dv : Value) : ∀ i, Stand p l e R s m args below meth c (gm_f T cA cB N M dv i) (locs ++ (List.range i).map (fun j => ⟨T.heap.size, j⟩)) (cells + 1 + i) (slots + N + i * M)
  | 0 => by
    have h := X.pushed (arrV cA N (fun _ => .null))
    rw [arrV_size] at h
    simpa [gm_f] using h
  | i + 1 => by
    obtain ⟨hat, -⟩ := gm_ff T cA cB N M dv i
    have hcell : ((gm_f T cA cB N M dv i).pushCell (arrV cB M (fun _ => dv))).heap[T.heap.size]? = some (arrV cA N (fun j => if j < i then .ref (T.heap.size + 1 + j) else .null)) := by
      rw [State.heap_pushCell, Array.getElem?_push, if_neg (by rw [hat.1]; omega)]
      exact hat.2.1
    have XN := ((gm_fX X cA cB N M dv i).pushed (arrV cB M (fun _ => dv))).stored hcell i (.ref (T.heap.size + 1 + i))
    rw [gm_upd, arrV_size] at XN
    rw [List.range_succ, List.map_append, ← List.append_assoc, Nat.succ_mul, show slots + N + (i * M + M) = slots + N + i * M + M by omega]
    exact XN
theorem gm_make {T : State} {f : JFrame} {cA cB cc : ClassId} {kA kB : Class} {ty : FieldType} {n k : Int32} {E : CtlPost} {d : Bool} {acts : List Action} (hkA : T.vm.classes[cA]? = some kA) (hkindA : kA.kind = .array cB (.array ty)) (hkB : T.vm.classes[cB]? = some kB) (hkindB : kB.kind = .array cc ty) (hn : ¬ n < 0) (hk : ¬ k < 0)
    (hl1 : ¬ n.toNatClampNeg > e.platform.arrayLengthLimit) (hh1 : ¬ n.toNatClampNeg * componentBytes (.array ty) > e.platform.maxHeapBytes) (hl2 : ¬ k.toNatClampNeg > e.platform.arrayLengthLimit) (hh2 : ¬ k.toNatClampNeg * componentBytes ty > e.platform.maxHeapBytes) (hdf : fits ty (defaultValue ty) = true)
    (hc : T.heap.size + 1 + n.toNatClampNeg ≤ e.platform.maxCells) (hs : T.slotsUsed + n.toNatClampNeg + n.toNatClampNeg * k.toNatClampNeg ≤ e.platform.maxSlots) {Qp : Addr → Pre}
    (hq : ∀ d' acts', Qp T.heap.size d' acts' ((gm_f T cA cB n.toNatClampNeg k.toNatClampNeg (defaultValue ty) n.toNatClampNeg).setTop f)) :
    wp (Jvm.Op.multianewarray.make cA [n, k]) Qp E e d acts (T.setTop f) := by
  have hfind : ([k].find? (· < 0)) = none := by simp [hk]
  rw [Jvm.Op.multianewarray.make]
  simp only [wp_bind', W.ite, hn, if_false, wp_pure', W.theClass, State.vm_setTop, hkA, hkindA, Option.some.injEq, exists_eq_left']
  refine W.newArray_of (k := kA) (comp := cB) (type := .array ty) (by rw [State.vm_setTop]; exact hkA) hkindA hl1 hh1 (by show T.heap.size < _; omega) (by show T.slotsUsed + _ ≤ _; have := Nat.zero_le (n.toNatClampNeg * k.toNatClampNeg); omega) rfl fun acts0 => ?_
  simp only [hfind]
  rw [ite_self, wp_bind', Std.Legacy.Range.forIn_eq_forIn_range']
  have hsz : ([:n.toNatClampNeg] : Std.Legacy.Range).size = n.toNatClampNeg := by simp [Std.Legacy.Range.size]
  rw [hsz]
  show wp (forIn (List.range' 0 n.toNatClampNeg 1) PUnit.unit _) _ E e d acts0 _
  refine wp_forIn_inv (fun rest S' => ∃ i, i ≤ n.toNatClampNeg ∧ rest = List.range' i (n.toNatClampNeg - i) ∧ S' = (gm_f T cA cB n.toNatClampNeg k.toNatClampNeg (defaultValue ty) i).setTop f) _ _ ⟨0, Nat.zero_le _, rfl, ?_⟩ ?_ ?_
  · rw [show ({ cls := cA, slots := Array.replicate n.toNatClampNeg .null } : Cell) = arrV cA n.toNatClampNeg (fun _ => .null) from arrV_new _ _ _]
    rfl
  · rintro x rest S' d' acts' Q' ⟨i, hi, hl, rfl⟩ hnext
    have hlt : i < n.toNatClampNeg := by
      rcases Nat.lt_or_ge i n.toNatClampNeg with h | h
      · exact h
      · rw [show n.toNatClampNeg - i = 0 by omega] at hl; simp at hl
    rw [show n.toNatClampNeg - i = (n.toNatClampNeg - (i + 1)) + 1 by omega, List.range'_succ] at hl
    obtain ⟨hx, hr⟩ := List.cons.inj hl
    subst hx
    obtain ⟨hat, hvm, hsu⟩ := gm_ff T cA cB n.toNatClampNeg k.toNatClampNeg (defaultValue ty) x
    have hmul : x * k.toNatClampNeg + k.toNatClampNeg ≤ n.toNatClampNeg * k.toNatClampNeg := by
      have := Nat.mul_le_mul_right k.toNatClampNeg (show x + 1 ≤ n.toNatClampNeg from hlt)
      rw [Nat.succ_mul] at this; exact this
    simp only [wp_bind']
    refine gm_row (by rw [State.vm_setTop, hvm]; exact hkB) hkindB hk hl2 hh2 hdf (by show (gm_f T cA cB _ _ _ x).heap.size < _; rw [hat.1]; omega) (by show (gm_f T cA cB _ _ _ x).slotsUsed + _ ≤ _; rw [hsu]; omega) fun acts1 => ?_
    have hcell : ((gm_f T cA cB n.toNatClampNeg k.toNatClampNeg (defaultValue ty) x).pushCell (arrV cB k.toNatClampNeg (fun _ => defaultValue ty))).heap[T.heap.size]? = some (arrV cA n.toNatClampNeg (fun j => if j < x then .ref (T.heap.size + 1 + j) else .null)) := by
      rw [State.heap_pushCell, Array.getElem?_push, if_neg (by rw [hat.1]; omega)]
      exact hat.2.1
    have esz : ((gm_f T cA cB n.toNatClampNeg k.toNatClampNeg (defaultValue ty) x).setTop f).heap.size = T.heap.size + 1 + x := hat.1
    simp only [wp_bind', W.writeLoc, wp_pure']
    refine ⟨arrV cA n.toNatClampNeg (fun j => if j < x then .ref (T.heap.size + 1 + j) else .null), hcell, (fun z => by cases z), by rw [arrV_size]; exact hlt, ?_, hnext _ _ _ ⟨x + 1, hlt, hr, ?_⟩⟩
    · have hcl : (gm_f T cA cB n.toNatClampNeg k.toNatClampNeg (defaultValue ty) x).vm.classes[cA]? = some kA := by rw [hvm]; exact hkA
      show State.fitsSlot _ cA .none x _ = true
      simp [State.fitsSlot, State.slotType?, hcl, hkindA, fits]
    · rw [esz, gm_upd]; rfl
  · rintro S' d' acts' ⟨i, hi, hl, rfl⟩
    have hiN : i = n.toNatClampNeg := by
      rcases Nat.lt_or_ge i n.toNatClampNeg with h | h
      · rw [show n.toNatClampNeg - i = (n.toNatClampNeg - (i + 1)) + 1 by omega, List.range'_succ] at hl; cases hl
      · omega
    subst hiN
    simp only [wp_pure']
    exact hq _ _
/-- the tables know the array of arrays -/
def gm_ov (ty : FieldType) (s : State) : Prop := ∃ (cB cA : ClassId) (kA : Class), s.vm.findClass (FieldType.array ty).toString = some cB ∧ s.vm.classes[cA]? = some kA ∧ kA.kind = .array cB (.array ty) ∧ s.vm.findClass ("[" ++ (FieldType.array ty).toString) = some cA
theorem gm_ov_of {ty : FieldType} (h : (Cond.arrayOver (.array ty)).before args s = true) : gm_ov ty s := by
  obtain ⟨cB, cA, kA, h1, -, h2, h3, h4⟩ := arrayOverA_spec h
  exact ⟨cB, cA, kA, h1, h2, h3, h4⟩
theorem gm_ov_moved {ty : FieldType} {u U : State} (hvm : u.vm.Alike U.vm) (h : gm_ov ty u) : gm_ov ty U := by
  obtain ⟨cB, cA, kA, h1, h2, h3, h4⟩ := h
  obtain ⟨k', hk', he⟩ := hvm.2.2 _ _ h2
  exact ⟨cB, cA, k', by rw [hvm.findClass]; exact h1, hk', by rw [he]; exact h3, by rw [hvm.findClass]; exact h4⟩
theorem gm_multi {cc : ByteArray} (hexec : p.tables.exec = Jvm.exec) (hb : c.code = cc) {own : String} {index : Nat} {ty : FieldType} (hown : s.vm.findClass own = some m.cls) (hclink : (Cond.classLink own index ("[" ++ (FieldType.array ty).toString)).before args s = true) (hover : gm_ov ty s) (harr : (Cond.arrayClass ty).before args s = true) (hdf : fits ty (defaultValue ty) = true)
    {pc : Nat} {ls : Array Slot} {rest : List Value} (hdg : decode cc pc = .ok (.multianewarray index 2, 4)) {n k : Int32} {N M : Nat} (hN : n.toNatClampNeg = N) (hM : k.toNatClampNeg = M) (hn : ¬ n < 0) (hk : ¬ k < 0) (hb1 : N * 4 ≤ 536870912) (hb2 : M * componentBytes ty ≤ 536870912) (hb3 : M ≤ 536870912) (hcells : cells + (1 + N) ≤ R.cells) (hslots : slots + (N + N * M) ≤ R.slots)
    (kk : ∀ (H1 : Heap) (L : List Loc) (cA cB : ClassId), s.vm.findClass ("[" ++ (FieldType.array ty).toString) = some cA → s.vm.findClass (FieldType.array ty).toString = some cB → ArrOfT s cA (.array ty) → ArrOfT s cB ty → gm_at H H1 cA cB N M (defaultValue ty) N → (∀ q ∈ L, q.base = H.size) →
      W p l e R s m args below meth c H1 (locs ++ L) (cells + 1 + N) (slots + N + N * M) Q (F0 m (pc + 4) ls (.ref H.size :: rest))) : W p l e R s m args below meth c H locs cells slots Q (F0 m pc ls (.int k :: .int n :: rest)) := by
  intro T hT X
  subst hT; subst hb; subst hN; subst hM
  have hpl : e.platform.magicAccessors = ({} : Platform).magicAccessors := by rw [X.admits.platform]
  obtain ⟨cB, cA, kA, hcB, hkA, hkindA, hnameA⟩ := hover
  obtain ⟨cB', kB, c1, hcB', hkB, hkindB⟩ := Cond.arrayClass_spec harr
  have eB : cB' = cB := Option.some.inj (hcB'.symm.trans hcB)
  subst eB
  obtain ⟨c0, hfc0, hcl⟩ := Cond.classLink_spec hown hclink e.platform hpl
  cases hnameA.symm.trans hfc0
  obtain ⟨hg₁, hwarm₁, hready₁⟩ := State.classEntry (e := e) X.warmed hcl
  generalize T.vm.noted m.cls index (.cls cA) = vm₁ at hg₁ hwarm₁ hready₁
  have hal : s.vm.Alike vm₁ := hwarm₁.alike
  obtain ⟨kA₁, hkA₁, heA⟩ := hal.2.2 _ _ hkA
  obtain ⟨kB₁, hkB₁, heB⟩ := hal.2.2 _ _ hkB
  have hkindA₁ : kA₁.kind = .array cB' (.array ty) := by rw [heA]; exact hkindA
  have hkindB₁ : kB₁.kind = .array c1 ty := by rw [heB]; exact hkindB
  have X₁ := X.noted hwarm₁
  obtain ⟨hr1, hr2⟩ := X.roomAbove hcells hslots
  have hl1 : ¬ n.toNatClampNeg > e.platform.arrayLengthLimit := by rw [Launch.admits_arrayLengthLimit X.admits]; omega
  have hh1 : ¬ n.toNatClampNeg * componentBytes (.array ty) > e.platform.maxHeapBytes := by
    rw [Launch.admits_maxHeapBytes X.admits]; show ¬ n.toNatClampNeg * 4 > 536870912; omega
  have hl2 : ¬ k.toNatClampNeg > e.platform.arrayLengthLimit := by rw [Launch.admits_arrayLengthLimit X.admits]; omega
  have hh2 : ¬ k.toNatClampNeg * componentBytes ty > e.platform.maxHeapBytes := by rw [Launch.admits_maxHeapBytes X.admits]; omega
  have XF := gm_fX X₁ cA cB' n.toNatClampNeg k.toNatClampNeg (defaultValue ty) n.toNatClampNeg
  obtain ⟨hat, -, -⟩ := gm_ff (T.setVm vm₁) cA cB' n.toNatClampNeg k.toNatClampNeg (defaultValue ty) n.toNatClampNeg
  obtain ⟨t, a1, b1⟩ := kk _ _ cA cB' hnameA hcB (fun N z => ⟨fun k h => (by cases h), kA, hkA, cB', hkindA⟩) (fun N z => ⟨fun k h => (by cases h), kB, hkB, c1, hkindB⟩) hat (fun q hq => by
    obtain ⟨j, -, rfl⟩ := List.mem_map.mp hq
    rfl) (gm_f (T.setVm vm₁) cA cB' n.toNatClampNeg k.toNatClampNeg (defaultValue ty) n.toNatClampNeg) rfl XF
  refine ⟨t, ?_, b1⟩
  jvm_step X.here [hexec, hdg]
  simp only [Jvm.Op.multianewarray.sem, wp_bind', W.resolveClassAt_links (State.method?_setTop (F0 m pc ls (.int k :: .int n :: rest)) X.here.top) hg₁]
  rw [W.popN, if_neg (by decide)]
  refine ⟨F0 m pc ls (.int k :: .int n :: rest), State.topJava?_setTop' (s := T.setVm vm₁) _ X.here.top, [.int n, .int k], rest, rfl, rfl, ?_⟩
  simp only [List.mapM_cons, List.mapM_nil, wp_bind', wp_pure']
  have eS : ((T.setTop (F0 m pc ls (.int k :: .int n :: rest))).setVm vm₁).setTop { F0 m pc ls (.int k :: .int n :: rest) with stack := rest } = (T.setVm vm₁).setTop { F0 m pc ls (.int k :: .int n :: rest) with stack := rest } := by
    show ((T.setVm vm₁).setTop (F0 m pc ls (.int k :: .int n :: rest))).setTop _ = _
    rw [State.setTop_setTop]
  rw [eS]
  refine gm_make (kA := kA₁) (kB := kB₁) (cc := c1) hkA₁ hkindA₁ hkB₁ hkindB₁ hn hk hl1 hh1 hl2 hh2 hdf (by show T.heap.size + 1 + _ ≤ _; omega) (by show T.slotsUsed + _ + _ ≤ _; omega) (fun d' acts' => ?_)
  simp only [wp_bind', W.mark, W.pushRef, State.topJava?_setTop' _ XF.here.top, Option.some.injEq, exists_eq_left', State.setTop_setTop]
  intro acts
  simp [jvm, XF.here.top]
  exact a1
end

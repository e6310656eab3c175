/-! members of the library: what a contract of one says, and how it is called -/
abbrev jm_N : Type := MethodName × ByteArray × Nat × Option FieldType
def jm_ws (y : jm_N) : List Cond := Cond.code y.1 y.2.1 y.2.2.1 y.2.2.2 :: ga_gw
def jm_rm (n k : Nat) : Room := { frames := n, cells := 0, slots := 0, locals := k }
def jm_good (y : jm_N) : Prop := plainName y.1.cls = true ∧ Cond.code y.1 y.2.1 y.2.2.1 y.2.2.2 ∈ ga_gw ∧ Cond.initialized y.1.cls ∈ ga_gw ∧ (y.1.cls ≠ "java/lang/invoke/MethodHandle" ∧ y.1.cls ≠ "java/lang/invoke/VarHandle")
def jm_Q (v : Option Value) : Array Value → State → Outcome → State → Prop := fun _ st o t => o = .returned v ∧ t.heap = st.heap
def jm_P (vs : List Value) (J : State → Prop) : Array Value → State → Prop := fun av U => av = vs.toArray ∧ J U
def jm_bl (J : State → Prop) : Prop := ∀ U U' : State, J U → U'.vm = U.vm → U'.heap = U.heap → J U'
def jm_C (l : Launch) (y : jm_N) (n k : Nat) (vs : List Value) (J : State → Prop) (v : Option Value) : Prop := Met l y.1 (jm_ws y) (jm_rm n k) (jm_P vs J) (jm_Q v) 0 0 (fun _ => False)
theorem jm_blind {vs : List Value} {J : State → Prop} (h : jm_bl J) : FrameBlind (jm_P vs J) := by
  intro a U g mk hq
  exact ⟨hq.1, h U (U.calling g mk a) hq.2 rfl rfl⟩
theorem jm_wsg {y : jm_N} (hy : jm_good y) : ∀ w ∈ jm_ws y, w ∈ ga_gw ∧ ((w.onTables && w.keeps) = true ∨ ∃ ty, w = .arrayClass ty) := by
  intro w hw
  rcases List.mem_cons.mp hw with rfl | hw
  · exact ⟨hy.2.1, ga_gw_good hy.2.1⟩
  · exact ⟨hw, ga_gw_good hw⟩
theorem jm_of {l : Launch} {y : jm_N} {n k : Nat} {vs : List Value} {J : State → Prop} {v : Option Value} (hy : jm_good y) (hlen : (lg_sl vs).length ≤ y.2.2.1)
    (body : ∀ (p : Program) (e : Env) (s : State) (m : MethodId) (args : Array Value) (below : List Frame) (meth : Method) (c : Code) (ls : Array Slot), CallFix p m c y.2.1 y.2.2.1 s args ga_gw y.1.cls → meth.locks = false → meth.sig.returnType = y.2.2.2 → J s → lv_has ls y.2.2.1 (lv_args 0 vs) →
      W p l e (jm_rm n k) s m args below meth c s.heap [] 0 0 (MQ below (jm_Q v) args s 0 0 (fun _ => False)) (F0 m 0 ls [])) : jm_C l y n k vs J v := by
  refine Met.ofW (cc := y.2.1) (maxL := y.2.2.1) (ret := y.2.2.2) hy.1 rfl ?_
  intro p e s m args below meth c s₁ B hml hv
  obtain ⟨rfl, hJ⟩ := hv
  have hts0 := atoms_spec (ws := jm_ws y) B.pre
  rw [lg_entry_eq]
  exact body p e s m _ below meth c _ ⟨B.exec, B.bytes, hml, findClass_of_methodNamed B.named, fun w hw => hts0 w (List.mem_cons_of_mem _ hw)⟩ B.notSynchronized B.returns hJ (lv_entry vs hlen)
section
variable {p : Program} {l : Launch} {e : Env} {R : Room} {s : State} {m : MethodId} {args : Array Value} {below : List Frame} {meth : Method} {c : Code} {H : Heap} {locs : List Loc} {cells slots : Nat} {Q : State → Prop}
theorem jm_RW {v : Option Value} {a : Array Value} {pc : Nat} {ls : Array Slot} {st0 rest : List Value} (hr : va_Run p l e R s m args below meth c H locs cells slots 0 0 (F0 m pc ls st0) rest (jm_Q v a) (fun _ => False)) (kk : W p l e R s m args below meth c H locs cells slots Q (F0 m (pc + 3) ls (v.toList ++ rest))) : W p l e R s m args below meth c H locs cells slots Q (F0 m pc ls st0) := by
  intro T hT X
  obtain ⟨v', st₀, t, T', L, h0, X', hL, e1, e2, ⟨hv, hq⟩, st⟩ := hr T hT X
  cases hv
  have hLn : L = [] := by
    cases L with
    | nil => rfl
    | cons q r => exact (hL q List.mem_cons_self).elim
  subst hLn
  rw [List.append_nil] at X'
  obtain ⟨t2, a1, b1⟩ := kk T' (by rw [e1, hq, h0]) X'
  exact ⟨t2, st t2 a1, b1⟩
variable {y : jm_N} {n k nL pc idx : Nat} {vs rest : List Value} {J : State → Prop} {v : Option Value} {cc : ByteArray} {own : String} {ls : Array Slot}
theorem jm_S (S : CallFix p m c cc nL s args ga_gw own) (hC : jm_C l y n k vs J v) (hy : jm_good y) (hbl : jm_bl J) (hJ : ∀ U : State, U.heap = H → s.WarmedH U.vm → J U)
    (hl : Cond.methodLink own idx y.1 ∈ ga_gw) (hst : Cond.static y.1 ∈ ga_gw) (hdesc : (parseMethodDescriptor y.1.desc).map (fun d => d.parameters.length) = some vs.length) (hls : ls.size = nL) (hcat : (rest.map fun v => v.category).sum ≤ 8) (hd : decode cc pc = .ok (.invokestatic idx, 3))
    (hR : n + 1 ≤ R.frames ∧ 8 + (y.2.2.1 + 11) + k ≤ R.locals) (hf : cells ≤ R.cells ∧ slots ≤ R.slots) (kk : W p l e R s m args below meth c H locs cells slots Q (F0 m (pc + 3) ls (v.toList ++ rest))) : W p l e R s m args below meth c H locs cells slots Q (F0 m pc ls (vs.reverse ++ rest)) :=
  jm_RW (va_runS (Ts := ga_gw) S hC ⟨⟨rfl, rfl, hR.1, hR.2, pay_in S.2.2.2.2 (jm_wsg hy), List.mem_cons_self, S.2.2.2.2 _ hy.2.1, S.2.2.2.2 _ hy.2.2.1, hy.2.2.2, fun sig h => by rw [h] at hdesc; exact (Option.some.inj hdesc).symm, S.2.2.2.2 _ hl⟩, S.2.2.2.2 _ hst⟩
    ⟨jm_blind hbl, fun U h1 h2 => ⟨rfl, hJ U h1 h2⟩⟩ rfl rfl hls rfl (lv_room hcat) hd hf) kk
theorem jm_V {C : String} {b : Nat} {As : List Value} (S : CallFix p m c cc nL s args ga_gw own) (hC : jm_C l y n k (.ref b :: As) J v) (hy : jm_good y) (hbl : jm_bl J) (hJ : ∀ U : State, U.heap = H → s.WarmedH U.vm → J U) (hcell : ∃ cell : Cell, H[b]? = some cell ∧ cell.vm.isStatics = false ∧ s.vm.findClass C = some cell.cls)
    (hl : Cond.methodLink own idx y.1 ∈ ga_gw) (hin : Cond.instanceMethod y.1 ∈ ga_gw) (hsel : Cond.selects C y.1 y.1 ∈ ga_gw) (hdesc : (parseMethodDescriptor y.1.desc).map (fun d => d.parameters.length) = some As.length) (hls : ls.size = nL) (hcat : (rest.map fun v => v.category).sum ≤ 8) (hd : decode cc pc = .ok (.invokevirtual idx, 3))
    (hR : n + 1 ≤ R.frames ∧ 8 + (y.2.2.1 + 11) + k ≤ R.locals) (hf : cells ≤ R.cells ∧ slots ≤ R.slots) (kk : W p l e R s m args below meth c H locs cells slots Q (F0 m (pc + 3) ls (v.toList ++ rest))) : W p l e R s m args below meth c H locs cells slots Q (F0 m pc ls (As.reverse ++ .ref b :: rest)) :=
  jm_RW (va_runV (Ts := ga_gw) S hC ⟨⟨rfl, rfl, hR.1, hR.2, pay_in S.2.2.2.2 (jm_wsg hy), List.mem_cons_self, S.2.2.2.2 _ hy.2.1, S.2.2.2.2 _ hy.2.2.1, hy.2.2.2, fun sig h => by rw [h] at hdesc; exact (Option.some.inj hdesc).symm, S.2.2.2.2 _ hl⟩, S.2.2.2.2 _ hin, S.2.2.2.2 _ hsel⟩
    ⟨jm_blind hbl, hcell, fun U h1 h2 => ⟨rfl, hJ U h1 h2⟩⟩ rfl rfl hls rfl (lv_room hcat) hd hf) kk
end
/-- a String at a over the bytes at d, and the library's statics -/
def jm_J (A : Nat → Prop) (a d n : Nat) (f : Nat → Int32) (U : State) : Prop :=
  va_O "java/lang/String" a A U U.heap ∧ va_OF "java/lang/String" "coder" "B" (.int 0) a A U U.heap ∧ va_OF "java/lang/String" "value" "[B" (.ref d) a A U U.heap ∧ va_T .byte d n (fun j => .int (f j)) A U U.heap ∧ va_Z "java/lang/String" "COMPACT_STRINGS" "Z" (.int 1) A U U.heap ∧ va_Zq "jdk/internal/util/Preconditions" "SIOOBE_FORMATTER" "Ljava/util/function/BiFunction;" A U U.heap ∧ n < 2 ^ 31
theorem jm_J.to {A : Nat → Prop} {a d n : Nat} {f : Nat → Int32} {s U : State} (h : jm_J A a d n f s) (hv : s.vm.Alike U.vm) (hh : U.heap = s.heap) : jm_J A a d n f U := by
  unfold jm_J
  rw [hh]
  exact ⟨va_O.moved hv h.1, va_OF.moved hv h.2.1, va_OF.moved hv h.2.2.1, va_T.moved hv h.2.2.2.1, va_Z.moved hv h.2.2.2.2.1, va_Zq.moved hv h.2.2.2.2.2.1, h.2.2.2.2.2.2⟩
theorem jm_J.bl {A : Nat → Prop} {a d n : Nat} {f : Nat → Int32} : jm_bl (jm_J A a d n f) := fun U U' h e1 e2 => h.to (by rw [e1]; exact Vm.Alike.refl U.vm) e2
theorem jm_J.at {A : Nat → Prop} {a d n : Nat} {f : Nat → Int32} {s : State} (h : jm_J A a d n f s) : ∀ U : State, U.heap = s.heap → s.WarmedH U.vm → jm_J A a d n f U := fun U e hW => h.to hW.alike e
theorem jm_J.cell {A : Nat → Prop} {a d n : Nat} {f : Nat → Int32} {s : State} (h : jm_J A a d n f s) : ∃ cell : Cell, s.heap[a]? = some cell ∧ cell.vm.isStatics = false ∧ s.vm.findClass "java/lang/String" = some cell.cls := by
  obtain ⟨cell, h1, h2, h3, -⟩ := h.1
  exact ⟨cell, h1, h2, h3⟩
section
variable {p : Program} {l : Launch} {e : Env} {R : Room} {s : State} {m : MethodId} {args : Array Value} {below : List Frame} {meth : Method} {c : Code} {H : Heap} {locs : List Loc} {cells slots : Nat} {Q : State → Prop} {A : Nat → Prop} {d n pc : Nat} {f : Nat → Int32} {cc : ByteArray} {ls : Array Slot} {rest : List Value}
theorem jm_alen (hx : p.tables.exec = Jvm.exec) (hb : c.code = cc) (hT : va_T .byte d n (fun j => .int (f j)) A s s.heap) (hS : va_S A s.heap H locs) (hd : decode cc pc = .ok (.arraylength, 1)) (kk : W p l e R s m args below meth c H locs cells slots Q (F0 m (pc + 1) ls (.int (Int32.ofNat n) :: rest))) : W p l e R s m args below meth c H locs cells slots Q (F0 m pc ls (.ref d :: rest)) := by
  obtain ⟨cell, t1, t2, t3, t4, t5, t6, t7⟩ := hT.kept hS.2.1
  exact W.alen hx hb t1 t2 t5 rfl rfl hd kk
theorem jm_bald (hx : p.tables.exec = Jvm.exec) (hb : c.code = cc) (hT : va_T .byte d n (fun j => .int (f j)) A s s.heap) (hS : va_S A s.heap H locs) {j : Nat} (hj : j < n) (hn : n < 2 ^ 31) (hd : decode cc pc = .ok (.baload, 1)) (kk : W p l e R s m args below meth c H locs cells slots Q (F0 m (pc + 1) ls (.int (f j) :: rest))) : W p l e R s m args below meth c H locs cells slots Q (F0 m pc ls (.int (Int32.ofNat j) :: .ref d :: rest)) := by
  obtain ⟨cell, t1, t2, t3, t4, t5, t6, t7⟩ := hT.kept hS.2.1
  have hc : (Int32.ofNat j).toNatClampNeg = j := nI_clamp (Nat.lt_trans hj hn)
  refine W.bald hx hb t1 t2 t3 ?_ (by rw [hc]; exact t6 j hj) rfl rfl hd kk
  rintro (z | z)
  · exact nI_pos (Nat.lt_trans hj hn) z
  · rw [hc] at z
    omega
end
def y_coder : jm_N := (⟨"java/lang/String", "coder", "()B"⟩, prog_16_method_152_code, 1, some .byte)
def y_isLatin1 : jm_N := (⟨"java/lang/String", "isLatin1", "()Z"⟩, prog_16_method_154_code, 1, some .boolean)
def y_length : jm_N := (⟨"java/lang/String", "length", "()I"⟩, prog_16_method_54_code, 1, some .int)
theorem g_coder : jm_good y_coder := ⟨by decide +kernel, jw_1_222, jw_1_6, by decide +kernel, by decide +kernel⟩
theorem g_isLatin1 : jm_good y_isLatin1 := ⟨by decide +kernel, jw_1_232, jw_1_6, by decide +kernel, by decide +kernel⟩
theorem g_length : jm_good y_length := ⟨by decide +kernel, jw_1_218, jw_1_6, by decide +kernel, by decide +kernel⟩
theorem jm_shr0 (x : Int32) : x >>> ((0 : Int32) &&& 31) = x := by
  have h : ((0 : Int32) &&& 31) = 0 := by decide
  rw [h]
  exact Int32.shiftRight_zero
section
variable {l : Launch} {A : Nat → Prop} {a d n : Nat} {f : Nat → Int32}
theorem jm_coder : jm_C l y_coder 1 60 [.ref a] (jm_J A a d n f) (some (.int 0)) := by
  refine jm_of g_coder (Nat.le_of_ble_eq_true rfl) (fun p e s m args below meth c ls S hlk hrt hJ hls => ?_)
  obtain ⟨hx, hb, hml, hown, hts⟩ := S
  obtain ⟨j1, j2, j3, j4, j5, j6, j7⟩ := hJ
  refine va_gets hx hb j5 va_S.rf hown (hts _ jw_1_223) (fun x h => h) (by decide +kernel) ?_
  refine lv_if_eq hx hb (off := 10) (tgt := 13) (by decide +kernel) (by decide) (fun z => absurd z (by decide)) (fun _ => ?_)
  refine lv_aload_n hx hb (k := 0) (by decide +kernel) rfl (hls.2.2 (0, .ref a) List.mem_cons_self) ?_
  refine vk_getf hx hb j2 va_S.rf hown (hts _ jw_2_155) (fun x h => h) (by decide +kernel) ?_
  refine lv_goto hx hb (off := 4) (tgt := 14) (by decide +kernel) (by decide) ?_
  exact W.zret hx hb hrt rfl (fun t ht hW => ⟨rfl, ht⟩) (fun q hq => by cases hq) (by decide +kernel) hlk
theorem jm_isLatin1 : jm_C l y_isLatin1 1 60 [.ref a] (jm_J A a d n f) (some (.int 1)) := by
  refine jm_of g_isLatin1 (Nat.le_of_ble_eq_true rfl) (fun p e s m args below meth c ls S hlk hrt hJ hls => ?_)
  obtain ⟨hx, hb, hml, hown, hts⟩ := S
  obtain ⟨j1, j2, j3, j4, j5, j6, j7⟩ := hJ
  refine va_gets hx hb j5 va_S.rf hown (hts _ jw_1_223) (fun x h => h) (by decide +kernel) ?_
  refine lv_if_eq hx hb (off := 14) (tgt := 17) (by decide +kernel) (by decide) (fun z => absurd z (by decide)) (fun _ => ?_)
  refine lv_aload_n hx hb (k := 0) (by decide +kernel) rfl (hls.2.2 (0, .ref a) List.mem_cons_self) ?_
  refine vk_getf hx hb j2 va_S.rf hown (hts _ jw_2_155) (fun x h => h) (by decide +kernel) ?_
  refine lv_if_ne hx hb (off := 7) (tgt := 17) (by decide +kernel) (by decide) (fun z => absurd rfl z) (fun _ => ?_)
  refine lv_iconst hx hb (n := 1) (by decide +kernel) rfl ?_
  refine lv_goto hx hb (off := 4) (tgt := 18) (by decide +kernel) (by decide) ?_
  exact W.zret hx hb hrt rfl (fun t ht hW => ⟨rfl, ht⟩) (fun q hq => by cases hq) (by decide +kernel) hlk
theorem jm_length : jm_C l y_length 3 140 [.ref a] (jm_J A a d n f) (some (.int (Int32.ofNat n))) := by
  refine jm_of g_length (Nat.le_of_ble_eq_true rfl) (fun p e s m args below meth c ls S hlk hrt hJ hls => ?_)
  have S' := S
  obtain ⟨hx, hb, hml, hown, hts⟩ := S
  have hJ' := hJ
  obtain ⟨j1, j2, j3, j4, j5, j6, j7⟩ := hJ
  refine lv_aload_n hx hb (k := 0) (by decide +kernel) rfl (hls.2.2 (0, .ref a) List.mem_cons_self) ?_
  refine vk_getf hx hb j3 va_S.rf hown (hts _ jw_2_154) (fun x h => h) (by decide +kernel) ?_
  refine jm_alen hx hb j4 va_S.rf (by decide +kernel) ?_
  refine lv_aload_n hx hb (k := 0) (by decide +kernel) rfl (hls.2.2 (0, .ref a) List.mem_cons_self) ?_
  refine jm_V (As := []) S' jm_coder g_coder jm_J.bl hJ'.at hJ'.cell jw_1_219 jw_1_220 jw_1_221 (by decide +kernel) hls.1 (Nat.le_of_ble_eq_true rfl) (by decide +kernel) ⟨by decide, by decide⟩ ⟨Nat.le_refl _, Nat.le_refl _⟩ ?_
  refine lv_ishr hx hb (by decide +kernel) ?_
  rw [jm_shr0]
  exact W.iret hx hb hrt (fun t ht hW => ⟨rfl, ht⟩) (fun q hq => by cases hq) (by decide +kernel) hlk
end

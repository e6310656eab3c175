/-! members of the library: what substring calls -/
def y_pft : jm_N := (⟨"jdk/internal/util/Preconditions", "checkFromToIndex", "(IIILjava/util/function/BiFunction;)I"⟩, prog_21_method_12_code, 4, some .int)
def y_cbe : jm_N := (⟨"java/lang/String", "checkBoundsBeginEnd", "(III)V"⟩, prog_16_method_158_code, 3, none)
def y_cln : jm_N := (⟨"java/util/Arrays", "checkLength", "(II)V"⟩, prog_20_method_131_code, 2, none)
def y_crb : jm_N := (⟨"java/util/Arrays", "copyOfRangeByte", "([BII)[B"⟩, prog_20_method_133_code, 5, some (.array .byte))
def y_cor : jm_N := (⟨"java/util/Arrays", "copyOfRange", "([BII)[B"⟩, prog_20_method_132_code, 3, some (.array .byte))
theorem dd_pft : (parseMethodDescriptor y_pft.1.desc).map (fun d => d.parameters.length) = some 4 := by decide +kernel
theorem dd_cbe : (parseMethodDescriptor y_cbe.1.desc).map (fun d => d.parameters.length) = some 3 := by decide +kernel
theorem dd_cln : (parseMethodDescriptor y_cln.1.desc).map (fun d => d.parameters.length) = some 2 := by decide +kernel
theorem dd_crb : (parseMethodDescriptor y_crb.1.desc).map (fun d => d.parameters.length) = some 3 := by decide +kernel
theorem dd_cor : (parseMethodDescriptor y_cor.1.desc).map (fun d => d.parameters.length) = some 3 := by decide +kernel
theorem g_pft : jm_good y_pft := ⟨by decide +kernel, jw_2_103, jw_1_8, by decide +kernel, by decide +kernel⟩
theorem g_cbe : jm_good y_cbe := ⟨by decide +kernel, jw_2_100, jw_1_6, by decide +kernel, by decide +kernel⟩
theorem g_cln : jm_good y_cln := ⟨by decide +kernel, jw_2_140, jw_1_13, by decide +kernel, by decide +kernel⟩
theorem g_crb : jm_good y_crb := ⟨by decide +kernel, jw_2_137, jw_1_13, by decide +kernel, by decide +kernel⟩
theorem g_cor : jm_good y_cor := ⟨by decide +kernel, jw_2_134, jw_1_13, by decide +kernel, by decide +kernel⟩
section
variable {l : Launch} {A : Nat → Prop} {a d n : Nat} {f : Nat → Int32}
theorem jm_pft {b en : Nat} {w : Value} (hw : w = .null ∨ ∃ t, w = .ref t) (hbe : b ≤ en) (hen : en ≤ n) (hn : n < 2 ^ 31) : jm_C l y_pft 1 60 [.int (nI b), .int (nI en), .int (nI n), w] (fun _ => True) (some (.int (nI b))) := by
  have hlen : (lg_sl [.int (nI b), .int (nI en), .int (nI n), w]).length ≤ y_pft.2.2.1 := by
    rcases hw with rfl | ⟨t, rfl⟩
    · exact Nat.le_of_ble_eq_true rfl
    · exact Nat.le_of_ble_eq_true rfl
  refine jm_of g_pft hlen (fun p e s m args below meth c ls S hlk hrt hJ hls => ?_)
  obtain ⟨hx, hb, hml, hown, hts⟩ := S
  refine lv_iload_n hx hb (k := 0) (by decide +kernel) rfl (lv_at hls 0 rfl) ?_
  refine lv_if_lt hx hb (off := 13) (tgt := 14) (by decide +kernel) (by decide) (fun z => absurd z (nI_pos (by omega))) (fun _ => ?_)
  refine lv_iload_n hx hb (k := 0) (by decide +kernel) rfl (lv_at hls 0 rfl) ?_
  refine lv_iload_n hx hb (k := 1) (by decide +kernel) rfl (lv_at hls 1 rfl) ?_
  refine lv_icmp_gt hx hb (off := 8) (tgt := 14) (by decide +kernel) (by decide) (fun z => absurd z (nI_nlt hbe (by omega))) (fun _ => ?_)
  refine lv_iload_n hx hb (k := 1) (by decide +kernel) rfl (lv_at hls 1 rfl) ?_
  refine lv_iload_n hx hb (k := 2) (by decide +kernel) rfl (lv_at hls 2 rfl) ?_
  refine lv_icmp_le hx hb (off := 11) (tgt := 22) (by decide +kernel) (by decide) (fun _ => ?_) (fun z => absurd (nI_le hen hn) z)
  refine lv_iload_n hx hb (k := 0) (by decide +kernel) rfl (lv_at hls 0 rfl) ?_
  exact W.iret hx hb hrt (fun t ht hW => ⟨rfl, ht⟩) (fun q hq => by cases hq) (by decide +kernel) hlk
theorem jm_cbe {b en : Nat} (hbe : b ≤ en) (hen : en ≤ n) : jm_C l y_cbe 2 100 [.int (nI b), .int (nI en), .int (nI n)] (jm_J A a d n f) none := by
  refine jm_of g_cbe (Nat.le_of_ble_eq_true rfl) (fun p e s m args below meth c ls S hlk hrt hJ hls => ?_)
  have S' := S
  obtain ⟨hx, hb, hml, hown, hts⟩ := S
  obtain ⟨j1, j2, j3, j4, j5, j6, j7⟩ := hJ
  obtain ⟨w, hw, j6⟩ : ∃ w : Value, (w = .null ∨ ∃ t, w = .ref t) ∧ va_Z "jdk/internal/util/Preconditions" "SIOOBE_FORMATTER" "Ljava/util/function/BiFunction;" w A s s.heap := by
    rcases j6 with j6 | ⟨t, j6⟩
    · exact ⟨_, Or.inl rfl, j6⟩
    · exact ⟨_, Or.inr ⟨t, rfl⟩, j6⟩
  refine lv_iload_n hx hb (k := 0) (by decide +kernel) rfl (lv_at hls 0 rfl) ?_
  refine lv_iload_n hx hb (k := 1) (by decide +kernel) rfl (lv_at hls 1 rfl) ?_
  refine lv_iload_n hx hb (k := 2) (by decide +kernel) rfl (lv_at hls 2 rfl) ?_
  refine va_gets hx hb j6 va_S.rf hown (hts _ jw_1_239) (fun x h => h) (by decide +kernel) ?_
  refine jm_S (vs := [.int (nI b), .int (nI en), .int (nI n), w]) (rest := []) S' (jm_pft hw hbe hen j7) g_pft jm_true (fun _ _ _ => trivial) jw_2_101 jw_2_102 dd_pft hls.1 (Nat.le_of_ble_eq_true rfl) (by decide +kernel) ⟨by decide, by decide⟩ ⟨Nat.le_refl _, Nat.le_refl _⟩ ?_
  refine lv_pop hx hb (by decide +kernel) rfl ?_
  exact W.vret hx hb hrt (fun t ht hW => ⟨rfl, ht⟩) (fun q hq => by cases hq) (by decide +kernel) hlk
theorem jm_cln {b en : Nat} (hbe : b ≤ en) (hen : en < 2 ^ 31) : jm_C l y_cln 1 60 [.int (nI b), .int (nI en)] (fun _ => True) none := by
  refine jm_of g_cln (Nat.le_of_ble_eq_true rfl) (fun p e s m args below meth c ls S hlk hrt hJ hls => ?_)
  obtain ⟨hx, hb, hml, hown, hts⟩ := S
  refine lv_iload_n hx hb (k := 1) (by decide +kernel) rfl (lv_at hls 1 rfl) ?_
  refine lv_iload_n hx hb (k := 0) (by decide +kernel) rfl (lv_at hls 0 rfl) ?_
  refine lv_icmp_ge hx hb (off := 35) (tgt := 37) (by decide +kernel) (by decide) (fun _ => ?_) (fun z => absurd (nI_le hbe hen) z)
  exact W.vret hx hb hrt (fun t ht hW => ⟨rfl, ht⟩) (fun q hq => by cases hq) (by decide +kernel) hlk
end
/-! members that make cells -/
def jm_M (sz : Nat) (F : Option Value → State → Prop) : Array Value → State → Outcome → State → Prop := fun _ st o t => ∃ v, o = .returned v ∧ F v t ∧ sz ≤ t.heap.size ∧ ∀ x : Nat, x < sz → t.heap[x]? = st.heap[x]?
def jm_rmk (n k cs ss : Nat) : Room := { frames := n, cells := cs, slots := ss, locals := k }
def jm_Cm (l : Launch) (y : jm_N) (n k cs ss sz : Nat) (vs : List Value) (J : State → Prop) (F : Option Value → State → Prop) : Prop := Met l y.1 (jm_ws y) (jm_rmk n k cs ss) (jm_P vs (fun U => U.heap.size = sz ∧ J U)) (jm_M sz F) cs ss (fun q => sz ≤ q)
def jm_al (F : Option Value → State → Prop) : Prop := ∀ v (t U : State), F v t → t.vm.Alike U.vm → U.heap = t.heap → F v U
theorem jm_ofm {l : Launch} {y : jm_N} {n k cs ss sz : Nat} {vs : List Value} {J : State → Prop} {F : Option Value → State → Prop} (hy : jm_good y) (hlen : (lg_sl vs).length ≤ y.2.2.1)
    (body : ∀ (p : Program) (e : Env) (s : State) (m : MethodId) (args : Array Value) (below : List Frame) (meth : Method) (c : Code) (ls : Array Slot), CallFix p m c y.2.1 y.2.2.1 s args ga_gw y.1.cls → meth.locks = false → meth.sig.returnType = y.2.2.2 → meth.name = y.1.name → s.heap.size = sz → J s → lv_has ls y.2.2.1 (lv_args 0 vs) →
      W p l e (jm_rmk n k cs ss) s m args below meth c s.heap [] 0 0 (MQ below (jm_M sz F) args s cs ss (fun q => sz ≤ q)) (F0 m 0 ls [])) : jm_Cm l y n k cs ss sz vs J F := by
  refine Met.ofW (cc := y.2.1) (maxL := y.2.2.1) (ret := y.2.2.2) hy.1 rfl ?_
  intro p e s m args below meth c s₁ B hml hv
  obtain ⟨rfl, hsz, hJ⟩ := hv
  have hts0 := atoms_spec (ws := jm_ws y) B.pre
  rw [lg_entry_eq]
  exact body p e s m _ below meth c _ ⟨B.exec, B.bytes, hml, findClass_of_methodNamed B.named, fun w hw => hts0 w (List.mem_cons_of_mem _ hw)⟩ B.notSynchronized B.returns (name_of_methodNamed B.named B.method).1 hsz hJ (lv_entry vs hlen)
section
variable {p : Program} {l : Launch} {e : Env} {R : Room} {s : State} {m : MethodId} {args : Array Value} {below : List Frame} {meth : Method} {c : Code} {H : Heap} {locs : List Loc} {cells slots : Nat} {Q : State → Prop}
theorem jm_MW {F : Option Value → State → Prop} {a : Array Value} {pc mc ms sz : Nat} {ls : Array Slot} {st0 rest : List Value} {A : Nat → Prop} (hF : jm_al F) (hr : va_Run p l e R s m args below meth c H locs cells slots mc ms (F0 m pc ls st0) rest (jm_M sz F a) (fun q => sz ≤ q)) (hsz : H.size = sz) (hS : va_S A s.heap H locs) (hA : ∀ q, s.heap.size ≤ q → A q)
    (kk : ∀ (U : State) (locs1 : List Loc) (v : Option Value), s.WarmedH U.vm → F v U → H.size ≤ U.heap.size → (∀ x : Nat, x < H.size → U.heap[x]? = H[x]?) → va_S A s.heap U.heap locs1 → W p l e R s m args below meth c U.heap locs1 (cells + mc) (slots + ms) Q (F0 m (pc + 3) ls (v.toList ++ rest))) : W p l e R s m args below meth c H locs cells slots Q (F0 m pc ls st0) := by
  intro T hT X
  subst hsz
  obtain ⟨v', st₀, t, T', L, h0, X', hL, e1, e2, ⟨v, hv, hf, h3, h4⟩, st⟩ := hr T hT X
  cases hv
  have hF' : F v' T' := hF v' t T' hf (by rw [e2]; exact Vm.Alike.refl _) e1
  obtain ⟨t2, a1, b1⟩ := kk T' (locs ++ L) v' X'.warmed hF' (by rw [e1]; exact h3) (fun x hx => by rw [e1, h4 x hx, h0]) ⟨Nat.le_trans hS.1 (by rw [e1]; exact h3), fun q h1 h2 => by
      rw [e1, h4 q (Nat.lt_of_lt_of_le h1 hS.1), h0]
      exact hS.2.1 q h1 h2, fun q hq => by
      rcases List.mem_append.mp hq with h | h
      · exact hS.2.2 q h
      · exact hA _ (Nat.le_trans hS.1 (hL q h))⟩ T' rfl X'
  exact ⟨t2, st t2 a1, b1⟩
end

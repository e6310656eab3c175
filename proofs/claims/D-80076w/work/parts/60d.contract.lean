/-! contracts of constructors -/
theorem gk_O_moved {u U : State} (hvm : u.vm.Alike U.vm) (h : gk_O u) : gk_O U := ⟨h.1.moved hvm, h.2.1.moved hvm, h.2.2.1.moved hvm, gm_ov_moved hvm h.2.2.2.1, gm_ov_moved hvm h.2.2.2.2⟩
theorem gk_K_moved {K : Nat → ClassId} {u U : State} (hvm : u.vm.Alike U.vm) (h : gk_K K u) : gk_K K U := fun e he => by rw [hvm.findClass]; exact h e he
def gk_S (K : Nat → ClassId) (D : va_G) (U : State) : Prop := gk_O U ∧ gk_K K U ∧ va_K D am_cl [] U ∧ ∀ w ∈ ga_nw, va_Nw w U
theorem gk_S_warm {K : Nat → ClassId} {D : va_G} {s U : State} (hW : s.WarmedH U.vm) (h : gk_S K D s) : gk_S K D U := ⟨gk_O_moved hW.alike h.1, gk_K_moved hW.alike h.2.1, va_K.moved hW.alike h.2.2.1, fun w hw => ga_nw_warm hw hW (h.2.2.2 w hw)⟩
theorem gk_S_same {K : Nat → ClassId} {D : va_G} {s U : State} (e : U.vm = s.vm) (h : gk_S K D s) : gk_S K D U := by
  have hv : s.vm.Alike U.vm := by rw [e]; exact Vm.Alike.refl _
  exact ⟨gk_O_moved hv h.1, gk_K_moved hv h.2.1, va_K.moved hv h.2.2.1, fun w hw => va_Nw.same (ga_nw_onT hw) e.symm (h.2.2.2 w hw)⟩
def gk_P (K : Nat → ClassId) (D : va_G) (a sz : Nat) (extra : List Value) (J : State → Prop) : Array Value → State → Prop := fun av U => av = (Value.ref a :: extra).toArray ∧ U.heap.size = sz ∧ gk_S K D U ∧ J U
def gk_A (a sz : Nat) : Nat → Prop := fun q => q = a ∨ sz ≤ q
def gk_C (l : Launch) (y : jm_N) (n k cs ss a sz : Nat) (extra : List Value) (K : Nat → ClassId) (D : va_G) (J : State → Prop) (F : Heap → Prop) : Prop :=
  Met l y.1 (jm_ws y) (jm_rmk n k cs ss) (gk_P K D a sz extra J) (va_Qv (S := Unit) (fun _ => True) (fun _ t => F t.heap) (gk_A a sz)) cs ss (gk_A a sz)
theorem gk_of {l : Launch} {y : jm_N} {n k cs ss a sz : Nat} {extra : List Value} {K : Nat → ClassId} {D : va_G} {J : State → Prop} {F : Heap → Prop} (hy : jm_good y) (hlen : (lg_sl (Value.ref a :: extra)).length ≤ y.2.2.1)
    (body : ∀ (p : Program) (e : Env) (s : State) (m : MethodId) (args : Array Value) (below : List Frame) (meth : Method) (c : Code) (ls : Array Slot), CallFix p m c y.2.1 y.2.2.1 s args ga_tb y.1.cls → meth.locks = false → meth.sig.returnType = y.2.2.2 → meth.name = y.1.name → s.heap.size = sz → gk_S K D s → J s → lv_has ls y.2.2.1 (lv_args 0 (Value.ref a :: extra)) →
      W p l e (jm_rmk n k cs ss) s m args below meth c s.heap [] 0 0 (MQ below (va_Qv (S := Unit) (fun _ => True) (fun _ t => F t.heap) (gk_A a sz)) args s cs ss (gk_A a sz)) (F0 m 0 ls [])) : gk_C l y n k cs ss a sz extra K D J F := by
  refine Met.ofW (cc := y.2.1) (maxL := y.2.2.1) (ret := y.2.2.2) hy.1 rfl ?_
  intro p e s m args below meth c s₁ B hml hv
  obtain ⟨rfl, hsz, hS, hJ⟩ := hv
  have hts0 := atoms_spec (ws := jm_ws y) B.pre
  have hts : ∀ w ∈ ga_tb, w.before (Value.ref a :: extra).toArray s = true := by
    intro w hw
    rcases List.mem_append.mp hw with hw | hw
    · exact hts0 w (List.mem_cons_of_mem _ hw)
    · exact va_Nw.use (ga_nw_onT hw) (hS.2.2.2 w hw)
  rw [lg_entry_eq]
  exact body p e s m _ below meth c _ ⟨B.exec, B.bytes, hml, findClass_of_methodNamed B.named, hts⟩ B.notSynchronized B.returns (name_of_methodNamed B.named B.method).1 hsz hS hJ (lv_entry _ hlen)
section
variable {p : Program} {l : Launch} {e : Env} {R : Room} {s : State} {m : MethodId} {args : Array Value} {below : List Frame} {meth : Method} {c : Code} {H : Heap} {locs : List Loc} {cells slots : Nat} {Q : State → Prop}
theorem gk_call {y : jm_N} {n k cs ss a sz nL pc idx : Nat} {extra rest : List Value} {K : Nat → ClassId} {D : va_G} {J : State → Prop} {F : Heap → Prop} {cc : ByteArray} {own : String} {ls : Array Slot} {A : Nat → Prop} {H0 : Heap}
    (S : CallFix p m c cc nL s args ga_tb own) (hC : gk_C l y n k cs ss a sz extra K D J F) (hy : jm_good y) (hnm : y.1.name = "<init>") (hrt : y.2.2.2 = none) (hbl : jm_bl J) (hSt : gk_S K D s) (hJ : ∀ U : State, U.heap = H → s.WarmedH U.vm → J U)
    (hl : Cond.methodLink own idx y.1 ∈ ga_gw ∨ ∃ host, Cond.methodLinkNest own idx y.1 host ∈ ga_nw) (hin : Cond.instanceMethod y.1 ∈ ga_gw) (hdesc : (parseMethodDescriptor y.1.desc).map (fun d => d.parameters.length) = some extra.length) (hls : ls.size = nL) (hcat : (rest.map fun v => v.category).sum ≤ 8) (hd : decode cc pc = .ok (.invokespecial idx, 3))
    (hR : n + 1 ≤ R.frames ∧ 8 + (y.2.2.1 + 11) + k ≤ R.locals) (hf : cells + cs ≤ R.cells ∧ slots + ss ≤ R.slots) (hsz : H.size = sz) (hS : va_S A H0 H locs) (hA : A a) (hA2 : ∀ q, H0.size ≤ q → A q)
    (kk : ∀ (H1 : Heap) (locs1 : List Loc), F H1 → H.size ≤ H1.size → (∀ x : Nat, x < H.size → x ≠ a → H1[x]? = H[x]?) → va_S A H0 H1 locs1 → W p l e R s m args below meth c H1 locs1 (cells + cs) (slots + ss) Q (F0 m (pc + 3) ls rest)) :
    W p l e R s m args below meth c H locs cells slots Q (F0 m pc ls (extra.reverse ++ .ref a :: rest)) := by
  obtain ⟨yn, yc, yl, yr⟩ := y
  cases (show yr = none from hrt)
  have hAA : ∀ q, q < H.size → gk_A a sz q → A q := by
    rintro q h1 (h2 | h2)
    · rw [h2]; exact hA
    · omega
  have hfr : ∀ q, gk_A a sz q → A q := by
    rintro q (h2 | h2)
    · rw [h2]; exact hA
    · exact hA2 q (Nat.le_trans hS.1 (by omega))
  have hpre : PreS s H (gk_P K D a sz extra J) (.ref a :: extra) := ⟨fun a' U g mk q => ⟨q.1, q.2.1, gk_S_same (s := U) rfl q.2.2.1, hbl U _ q.2.2.2 rfl rfl⟩, fun U h1 h2 => ⟨rfl, by rw [h1]; exact hsz, gk_S_warm h2 hSt, hJ U h1 h2⟩⟩
  have hpay : ∀ w ∈ jm_ws (yn, yc, yl, none), w ∈ ga_tb ∧ ((w.onTables && w.keeps) = true ∨ ∃ ty, w = .arrayClass ty) := fun w hw => ⟨gk_in_tb (jm_wsg hy w hw).1, (jm_wsg hy w hw).2⟩
  have hlen : ∀ sig, parseMethodDescriptor yn.desc = some sig → extra.length = sig.parameters.length := fun sig h => by rw [h] at hdesc; exact (Option.some.inj hdesc).symm
  have run : va_Run p l e R s m args below meth c H locs cells slots cs ss (F0 m pc ls (extra.reverse ++ .ref a :: rest)) rest (va_Qv (S := Unit) (fun _ => True) (fun _ t => F t.heap) (gk_A a sz) (Value.ref a :: extra).toArray) (gk_A a sz) := by
    rcases hl with hl | ⟨host, hl⟩
    · exact va_runI (Ts := ga_tb) S hC ⟨⟨rfl, rfl, hR.1, hR.2, pay_in S.2.2.2.2 hpay, List.mem_cons_self, S.2.2.2.2 _ (gk_in_tb hy.2.1), S.2.2.2.2 _ (gk_in_tb hy.2.2.1), hy.2.2.2, hlen, S.2.2.2.2 _ (gk_in_tb hl)⟩, hnm, S.2.2.2.2 _ (gk_in_tb hin)⟩ hpre rfl rfl hls rfl (lv_room hcat) hd hf
    · exact va_runIN (Ts := ga_tb) (host := host) S hC ⟨⟨⟨rfl, rfl, hR.1, hR.2, pay_in S.2.2.2.2 hpay, List.mem_cons_self⟩, S.2.2.2.2 _ (gk_in_tb hy.2.1), S.2.2.2.2 _ (gk_in_tb hy.2.2.1), hy.2.2.2, hlen, va_Nw.use (ga_nw_onT hl) (hSt.2.2.2 _ hl)⟩, hnm, S.2.2.2.2 _ (gk_in_tb hin)⟩ hpre rfl rfl hls rfl (lv_room hcat) hd hf
  refine va_callv run hS hAA hfr fun u t H1 locs1 e1 e2 _ hB h3 h4 h5 => ?_
  exact kk H1 locs1 (by rw [← e1]; exact hB) h3 (fun x x1 x2 => h4 x x1 (fun z => by rcases z with z | z; exact x2 z; omega)) h5
end

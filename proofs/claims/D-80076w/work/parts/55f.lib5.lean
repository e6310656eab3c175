/-! members of the library: a String is made -/
def y_sini : jm_N := (⟨"java/lang/String", "<init>", "([BB)V"⟩, prog_16_method_151_code, 3, none)
def y_news : jm_N := (⟨"java/lang/StringLatin1", "newString", "([BII)Ljava/lang/String;"⟩, prog_17_method_47_code, 3, some (.object "java/lang/String"))
def y_subs : jm_N := (⟨"java/lang/String", "substring", "(II)Ljava/lang/String;"⟩, prog_16_method_92_code, 5, some (.object "java/lang/String"))
theorem dd_sini : (parseMethodDescriptor y_sini.1.desc).map (fun d => d.parameters.length) = some 2 := by decide +kernel
theorem dd_news : (parseMethodDescriptor y_news.1.desc).map (fun d => d.parameters.length) = some 3 := by decide +kernel
theorem dd_subs : (parseMethodDescriptor y_subs.1.desc).map (fun d => d.parameters.length) = some 2 := by decide +kernel
theorem g_sini : jm_good y_sini := ⟨by decide +kernel, jw_2_152, jw_1_6, by decide +kernel, by decide +kernel⟩
theorem g_news : jm_good y_news := ⟨by decide +kernel, jw_2_128, jw_1_7, by decide +kernel, by decide +kernel⟩
theorem g_subs : jm_good y_subs := ⟨by decide +kernel, jw_2_124, jw_1_6, by decide +kernel, by decide +kernel⟩
section
variable {p : Program} {l : Launch} {e : Env} {R : Room} {s : State} {m : MethodId} {args : Array Value} {below : List Frame} {meth : Method} {c : Code} {H : Heap} {locs : List Loc} {cells slots : Nat} {Q : State → Prop}
variable {y : jm_N} {n k cs ss sz nL pc idx : Nat} {vs rest : List Value} {J : State → Prop} {F : Option Value → State → Prop} {cc : ByteArray} {own : String} {ls : Array Slot} {A : Nat → Prop}
theorem jm_blm (hbl : jm_bl J) : jm_bl (fun U => U.heap.size = sz ∧ J U) := fun U U' h e1 e2 => ⟨by rw [e2]; exact h.1, hbl U U' h.2 e1 e2⟩
theorem jm_Sm (S : CallFix p m c cc nL s args ga_gw own) (hC : jm_Cm l y n k cs ss sz vs J F) (hy : jm_good y) (hbl : jm_bl J) (hF : jm_al F) (hJ : ∀ U : State, U.heap = H → s.WarmedH U.vm → J U)
    (hl : Cond.methodLink own idx y.1 ∈ ga_gw) (hst : Cond.static y.1 ∈ ga_gw) (hdesc : (parseMethodDescriptor y.1.desc).map (fun d => d.parameters.length) = some vs.length) (hls : ls.size = nL) (hcat : (rest.map fun v => v.category).sum ≤ 8) (hd : decode cc pc = .ok (.invokestatic idx, 3))
    (hR : n + 1 ≤ R.frames ∧ 8 + (y.2.2.1 + 11) + k ≤ R.locals) (hf : cells + cs ≤ R.cells ∧ slots + ss ≤ R.slots) (hsz : H.size = sz) (hS : va_S A s.heap H locs) (hA : ∀ q, s.heap.size ≤ q → A q)
    (kk : ∀ (U : State) (locs1 : List Loc) (v : Option Value), s.WarmedH U.vm → F v U → H.size ≤ U.heap.size → (∀ x : Nat, x < H.size → U.heap[x]? = H[x]?) → va_S A s.heap U.heap locs1 → W p l e R s m args below meth c U.heap locs1 (cells + cs) (slots + ss) Q (F0 m (pc + 3) ls (v.toList ++ rest))) :
    W p l e R s m args below meth c H locs cells slots Q (F0 m pc ls (vs.reverse ++ rest)) :=
  jm_MW hF (va_runS (Ts := ga_gw) S hC ⟨⟨rfl, rfl, hR.1, hR.2, pay_in S.2.2.2.2 (jm_wsg hy), List.mem_cons_self, S.2.2.2.2 _ hy.2.1, S.2.2.2.2 _ hy.2.2.1, hy.2.2.2, fun sig h => by rw [h] at hdesc; exact (Option.some.inj hdesc).symm, S.2.2.2.2 _ hl⟩, S.2.2.2.2 _ hst⟩
    ⟨jm_blind (jm_blm hbl), fun U h1 h2 => ⟨rfl, by rw [h1]; exact hsz, hJ U h1 h2⟩⟩ rfl rfl hls rfl (lv_room hcat) hd hf) hsz hS hA kk
theorem jm_Vm {C : String} {b : Nat} {As : List Value} (S : CallFix p m c cc nL s args ga_gw own) (hC : jm_Cm l y n k cs ss sz (.ref b :: As) J F) (hy : jm_good y) (hbl : jm_bl J) (hF : jm_al F) (hJ : ∀ U : State, U.heap = H → s.WarmedH U.vm → J U) (hcell : ∃ cell : Cell, H[b]? = some cell ∧ cell.vm.isStatics = false ∧ s.vm.findClass C = some cell.cls)
    (hl : Cond.methodLink own idx y.1 ∈ ga_gw) (hin : Cond.instanceMethod y.1 ∈ ga_gw) (hsel : Cond.selects C y.1 y.1 ∈ ga_gw) (hdesc : (parseMethodDescriptor y.1.desc).map (fun d => d.parameters.length) = some As.length) (hls : ls.size = nL) (hcat : (rest.map fun v => v.category).sum ≤ 8) (hd : decode cc pc = .ok (.invokevirtual idx, 3))
    (hR : n + 1 ≤ R.frames ∧ 8 + (y.2.2.1 + 11) + k ≤ R.locals) (hf : cells + cs ≤ R.cells ∧ slots + ss ≤ R.slots) (hsz : H.size = sz) (hS : va_S A s.heap H locs) (hA : ∀ q, s.heap.size ≤ q → A q)
    (kk : ∀ (U : State) (locs1 : List Loc) (v : Option Value), s.WarmedH U.vm → F v U → H.size ≤ U.heap.size → (∀ x : Nat, x < H.size → U.heap[x]? = H[x]?) → va_S A s.heap U.heap locs1 → W p l e R s m args below meth c U.heap locs1 (cells + cs) (slots + ss) Q (F0 m (pc + 3) ls (v.toList ++ rest))) :
    W p l e R s m args below meth c H locs cells slots Q (F0 m pc ls (As.reverse ++ .ref b :: rest)) :=
  jm_MW hF (va_runV (Ts := ga_gw) S hC ⟨⟨rfl, rfl, hR.1, hR.2, pay_in S.2.2.2.2 (jm_wsg hy), List.mem_cons_self, S.2.2.2.2 _ hy.2.1, S.2.2.2.2 _ hy.2.2.1, hy.2.2.2, fun sig h => by rw [h] at hdesc; exact (Option.some.inj hdesc).symm, S.2.2.2.2 _ hl⟩, S.2.2.2.2 _ hin, S.2.2.2.2 _ hsel⟩
    ⟨jm_blind (jm_blm hbl), hcell, fun U h1 h2 => ⟨rfl, by rw [h1]; exact hsz, hJ U h1 h2⟩⟩ rfl rfl hls rfl (lv_room hcat) hd hf) hsz hS hA kk
end
theorem jm_T_bl {d n : Nat} {f : Nat → Int32} : jm_bl (fun U => va_T .byte d n (fun j => .int (f j)) (fun _ => False) U U.heap) := fun U U' h e1 e2 => by
  show va_T .byte d n (fun j => .int (f j)) (fun _ => False) U' U'.heap
  rw [e2]
  exact va_T.moved (by rw [e1]; exact Vm.Alike.refl _) h
section
variable {l : Launch} {d n b en sz : Nat} {f : Nat → Int32}
theorem jm_cor (hbe : b < en) (hen : en ≤ n) (hne : b ≠ 0 ∨ en ≠ n) (hn : n < 2 ^ 31) (h11 : en - b ≤ 12) (hby : ∀ j : Nat, j < n → fits .byte (.int (f j)) = true) :
    jm_Cm l y_cor 3 160 1 12 sz [.ref d, .int (nI b), .int (nI en)] (fun U => va_T .byte d n (fun j => .int (f j)) (fun _ => False) U U.heap) (jm_Fa sz (en - b) f b) := by
  refine jm_ofm g_cor (Nat.le_of_ble_eq_true rfl) (fun p e s m args below meth c ls S hlk hrt hnm hsz hJ hls => ?_)
  have S' := S
  obtain ⟨hx, hb, hml, hown, hts⟩ := S
  have hT := jm_re (B := fun q => s.heap.size ≤ q) hJ (fun q h z => by omega)
  have main : W p l e (jm_rmk 3 160 1 12) s m args below meth c s.heap [] 0 0 (MQ below (jm_M sz (jm_Fa sz (en - b) f b)) args s 1 12 (fun q => sz ≤ q)) (F0 m 10 ls []) := by
    refine lv_aload_n hx hb (k := 0) (by decide +kernel) rfl (lv_at hls 0 rfl) ?_
    refine lv_iload_n hx hb (k := 1) (by decide +kernel) rfl (lv_at hls 1 rfl) ?_
    refine lv_iload_n hx hb (k := 2) (by decide +kernel) rfl (lv_at hls 2 rfl) ?_
    refine jm_Sm (vs := [.ref d, .int (nI b), .int (nI en)]) (rest := []) (A := fun q => s.heap.size ≤ q) S' (jm_crb hbe hen hn h11 hby) g_crb jm_T_bl jm_Fa_al (fun U h1 h2 => by rw [h1]; exact va_T.moved h2.alike hJ) jw_2_135 jw_2_136 dd_crb hls.1 (Nat.le_of_ble_eq_true rfl) (by decide +kernel) ⟨by decide, by decide⟩ ⟨Nat.le_refl _, Nat.le_refl _⟩ hsz va_S.rf (fun q h => h) (fun U locs1 v hW hF h1 h2 hS => ?_)
    obtain ⟨q, cA, rfl, k1, k2, k3⟩ := hF
    refine W.aret hx hb hrt (Or.inr ⟨_, rfl⟩) (Or.inr ⟨_, rfl⟩) (fun t ht hWt => ⟨_, rfl, ⟨q, cA, rfl, k1, arrOfT_moved (hW.alike.symm.trans hWt.alike) k2, by rw [ht]; exact k3⟩, by rw [ht, ← hsz]; exact h1, fun x hx2 => by rw [ht]; exact h2 x (by rw [hsz]; exact hx2)⟩) (fun q hq => by rw [← hsz]; exact hS.2.2 q hq) (by decide +kernel) hlk
  refine lv_iload_n hx hb (k := 1) (by decide +kernel) rfl (lv_at hls 1 rfl) ?_
  refine lv_if_ne hx hb (off := 9) (tgt := 10) (by decide +kernel) (by decide) (fun _ => main) (fun z => ?_)
  have hb0 : b = 0 := (nI_eq (a := b) (b := 0) (by omega) (by decide)).mp z
  refine lv_iload_n hx hb (k := 2) (by decide +kernel) rfl (lv_at hls 2 rfl) ?_
  refine lv_aload_n hx hb (k := 0) (by decide +kernel) rfl (lv_at hls 0 rfl) ?_
  refine jm_alen hx hb hT va_S.rf (by decide +kernel) ?_
  refine lv_icmp_eq hx hb (off := 10) (tgt := 17) (by decide +kernel) (by decide) (fun z2 => ?_) (fun _ => main)
  have : en = n := (nI_eq (by omega) hn).mp z2
  omega
end

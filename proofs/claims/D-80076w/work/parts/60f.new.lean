/-! an object is made: new, dup, invokespecial; constructors of Step, Words, Turns -/
theorem gk_obi : Cond.code Lib.objectInit ⟨#[0xb1]⟩ 1 none ∈ ga_gw := jw_1_27
section
variable {p : Program} {l : Launch} {e : Env} {R : Room} {s : State} {m : MethodId} {args : Array Value} {below : List Frame} {meth : Method} {c : Code} {H : Heap} {locs : List Loc} {cells slots : Nat} {Q : State → Prop}
/-- a new object, all fields as they are at first -/
def gk_ob0 (D : va_G) (ci : Nat) (a : Nat) (H : Heap) : Prop := ∃ (C : String) (T : u_T) (N : Nat) (ty : Nat → FieldType), am_cl[ci]? = some (C, T, N) ∧ (∀ k, k < N → parseFieldDescriptor (T k).2.2.1 = some (ty k)) ∧ t_OB a (D.1 ci) N (D.2 ci) H (fun k => defaultValue (ty k))
theorem gk_ob0_lt {D : va_G} {ci a : Nat} {H : Heap} (h : gk_ob0 D ci a H) : a < H.size := by
  obtain ⟨C, T, N, ty, _, _, cell, q1, _⟩ := h
  exact (Array.getElem?_eq_some_iff.mp q1).1
theorem gk_ob0_kept {D : va_G} {ci a : Nat} {H H1 : Heap} (h : gk_ob0 D ci a H) (e : H1[a]? = H[a]?) : gk_ob0 D ci a H1 := by
  obtain ⟨C, T, N, ty, h1, h2, h3⟩ := h
  exact ⟨C, T, N, ty, h1, h2, h3.kept e⟩
theorem gk_ob0_bl {D : va_G} {ci a : Nat} : jm_bl (fun U => gk_ob0 D ci a U.heap) := fun U U' h _ e2 => by
  show gk_ob0 D ci a U'.heap
  rw [e2]; exact h
theorem gk_new1 {nL pc idx : Nat} {rest : List Value} {D : va_G} {cc : ByteArray} {own C : String} {T : u_T} {N ci : Nat} {ls : Array Slot} {A : Nat → Prop} {H0 : Heap}
    (S : CallFix p m c cc nL s args ga_tb own) (hK : va_K D am_cl [] s) (hc : am_cl[ci]? = some (C, T, N)) (hcl : Cond.classLink own idx C ∈ ga_gw) (hins : Cond.instantiable C N ∈ ga_gw) (hini : Cond.initialized C ∈ ga_gw) (hd : decode cc pc = .ok (.new idx, 3)) (hd2 : decode cc (pc + 3) = .ok (.dup, 1)) (hf : cells + 1 ≤ R.cells ∧ slots + N ≤ R.slots) (hS : va_S A H0 H locs)
    (kk : ∀ (H1 : Heap), gk_ob0 D ci H.size H1 → H1.size = H.size + 1 → (∀ x : Nat, x < H.size → H1[x]? = H[x]?) → va_S A H0 H1 locs → W p l e R s m args below meth c H1 locs (cells + 1) (slots + N) Q (F0 m (pc + 4) ls (.ref H.size :: .ref H.size :: rest))) :
    W p l e R s m args below meth c H locs cells slots Q (F0 m pc ls rest) := by
  obtain ⟨hx, hb, hml, hown, hts⟩ := S
  obtain ⟨hin, hnm, ty, hty⟩ := gk_cls hc
  have hKn := hK.1 ci _ hc
  refine W.newcK hx hb hown (hts _ (gk_in_tb hcl)) (hts _ (gk_in_tb hins)) (hts _ (gk_in_tb hini)) rfl hd hf.1 hf.2 hKn.2.1 rfl fun H1 kC hkC e1 z1 o1 => ?_
  refine lv_dup hx hb hd2 rfl ?_
  exact kk H1 ⟨C, T, N, ty, hc, hty, u_born ty hts hin hKn hkC e1 hty⟩ z1 o1 ⟨Nat.le_trans hS.1 (by omega), fun x h1 h2 => (o1 x (Nat.lt_of_lt_of_le h1 hS.1)).trans (hS.2.1 x h1 h2), hS.2.2⟩
/-- new C() with a constructor without arguments -/
theorem gk_newc {y : jm_N} {n k cs ss nL pc idx idx2 : Nat} {rest : List Value} {K : Nat → ClassId} {D : va_G} {F : Nat → Heap → Prop} {cc : ByteArray} {own C : String} {T : u_T} {N ci : Nat} {ls : Array Slot} {A : Nat → Prop} {H0 : Heap}
    (S : CallFix p m c cc nL s args ga_tb own) (hC : ∀ h, gk_C l y n k cs ss h (h + 1) [] K D (fun U => gk_ob0 D ci h U.heap) (F h)) (hy : jm_good y) (hnm : y.1.name = "<init>") (hrt : y.2.2.2 = none) (hSt : gk_S K D s) (hc : am_cl[ci]? = some (C, T, N)) (hcl : Cond.classLink own idx C ∈ ga_gw) (hins : Cond.instantiable C N ∈ ga_gw) (hini : Cond.initialized C ∈ ga_gw)
    (hl : Cond.methodLink own idx2 y.1 ∈ ga_gw ∨ ∃ host, Cond.methodLinkNest own idx2 y.1 host ∈ ga_nw) (hin : Cond.instanceMethod y.1 ∈ ga_gw) (hdesc : (parseMethodDescriptor y.1.desc).map (fun d => d.parameters.length) = some 0) (hls : ls.size = nL) (hcat : (rest.map fun v => v.category).sum ≤ 7) (hd : decode cc pc = .ok (.new idx, 3)) (hd2 : decode cc (pc + 3) = .ok (.dup, 1)) (hd3 : decode cc (pc + 4) = .ok (.invokespecial idx2, 3))
    (hR : n + 1 ≤ R.frames ∧ 8 + (y.2.2.1 + 11) + k ≤ R.locals) (hf : cells + (1 + cs) ≤ R.cells ∧ slots + (N + ss) ≤ R.slots) (hS : va_S A H0 H locs) (hA2 : ∀ q, H0.size ≤ q → A q)
    (kk : ∀ (H1 : Heap) (locs1 : List Loc), F H.size H1 → H.size + 1 ≤ H1.size → (∀ x : Nat, x < H.size → H1[x]? = H[x]?) → va_S A H0 H1 locs1 → W p l e R s m args below meth c H1 locs1 (cells + (1 + cs)) (slots + (N + ss)) Q (F0 m (pc + 7) ls (.ref H.size :: rest))) :
    W p l e R s m args below meth c H locs cells slots Q (F0 m pc ls rest) := by
  refine gk_new1 S hSt.2.2.1 hc hcl hins hini hd hd2 (by omega) hS fun H1 f1 f2 f3 f4 => ?_
  refine gk_call (extra := []) (rest := .ref H.size :: rest) S (hC H.size) hy hnm hrt gk_ob0_bl hSt (fun U h1 h2 => by rw [h1]; exact f1) hl hin hdesc hls (by simp only [List.map_cons, List.sum_cons]; show 1 + _ ≤ 8; omega) hd3 hR (by omega) f2 f4 (hA2 _ hS.1) hA2 fun H2 locs2 g1 g2 g3 g4 => ?_
  have := kk H2 locs2 g1 (by omega) (fun x hx => by rw [g3 x (by omega) (by omega)]; exact f3 x hx) g4
  rw [← Nat.add_assoc, ← Nat.add_assoc] at this
  exact this
theorem gk_vret {cc : ByteArray} {F : Heap → Prop} {a sz pc : Nat} {ls : Array Slot} (hexec : p.tables.exec = Jvm.exec) (hb : c.code = cc) (hr : meth.sig.returnType = none) (hlk : meth.locks = false) (hF : F H) (hS : va_S (gk_A a sz) s.heap H locs) (hdg : decode cc pc = .ok (.return_, 1)) :
    W p l e R s m args below meth c H locs cells slots (MQ below (va_Qv (S := Unit) (fun _ => True) (fun _ t => F t.heap) (gk_A a sz)) args s cells slots (gk_A a sz)) (F0 m pc ls []) :=
  W.vret hexec hb hr (fun t ht hW => ⟨⟨(), rfl, trivial, (show F t.heap by rw [ht]; exact hF)⟩, hS.F ht⟩) hS.2.2 hdg hlk
end
/-- Step -/
theorem c_stp {l : Launch} {K : Nat → ClassId} {D : va_G} (h : Nat) : gk_C l y_stp 1 60 0 0 h (h + 1) [] K D (fun U => gk_ob0 D 7 h U.heap) (fun H => H.size = h + 1 ∧ gk_ob0 D 7 h H) := by
  refine gk_of gd_stp (Nat.le_of_ble_eq_true rfl) (fun p e s m args below meth c ls S hlk hrt hnm hsz hSt hJ hls => ?_)
  obtain ⟨hx, hb, hml, hown, hts⟩ := S
  refine lv_aload_n hx hb (k := 0) (by decide +kernel) rfl (lv_at hls 0 rfl) ?_
  refine W.objInit hx hb hown (hts _ (gk_in_tb wo_stp)) (hts _ (gk_in_tb jw_1_26)) (hts _ (gk_in_tb gk_obi)) rfl (by rw [hml]; exact hls.1) rfl (show decode y_stp.2.1 1 = _ by decide +kernel) (Nat.le_of_ble_eq_true rfl) (Nat.le_of_ble_eq_true rfl) ?_
  exact gk_vret (F := fun H => H.size = h + 1 ∧ gk_ob0 D 7 h H) hx hb hrt hlk ⟨hsz, hJ⟩ va_S.rf (show decode y_stp.2.1 4 = _ by decide +kernel)
/-- an object whose constructor makes the arrays of a list -/
def gk_obI (K : Nat → ClassId) (D : va_G) (ci : Nat) (a sz : Nat) (its : List gk_it) (H : Heap) : Prop := ∃ (C : String) (T : u_T) (N : Nat) (ty : Nat → FieldType), am_cl[ci]? = some (C, T, N) ∧ (∀ k, k < N → parseFieldDescriptor (T k).2.2.1 = some (ty k)) ∧ t_OB a (D.1 ci) N (D.2 ci) H (gk_V (fun k => defaultValue (ty k)) sz its) ∧ gk_all K sz H its
/-- Words -/
theorem c_wds {l : Launch} {K : Nat → ClassId} {D : va_G} (h : Nat) : gk_C l y_wds 1 60 6 27560 h (h + 1) [] K D (fun U => gk_ob0 D 2 h U.heap) (fun H => H.size = h + 7 ∧ gk_obI K D 2 h (h + 1) it_wds H) := by
  refine gk_of gd_wds (Nat.le_of_ble_eq_true rfl) (fun p e s m args below meth c ls S hlk hrt hnm hsz hSt hJ hls => ?_)
  obtain ⟨hx, hb, hml, hown, hts⟩ := S
  obtain ⟨C, T, N, ty, j1, j2, j3⟩ := hJ
  cases (show (C, T, N) = ("RuleSentences$Words", am_T am_Tl_d, 9) from Option.some.inj (j1.symm.trans rfl))
  refine lv_aload_n hx hb (k := 0) (by decide +kernel) rfl (lv_at hls 0 rfl) ?_
  refine W.objInit hx hb hown (hts _ (gk_in_tb wo_wds)) (hts _ (gk_in_tb jw_1_26)) (hts _ (gk_in_tb gk_obi)) rfl (by rw [hml]; exact hls.1) rfl (show decode y_wds.2.1 1 = _ by decide +kernel) (Nat.le_of_ble_eq_true rfl) (Nat.le_of_ble_eq_true rfl) ?_
  refine gk_its hx hb hown hts hSt.1 hSt.2.1 hSt.2.2.1 rfl hnm (lv_at hls 0 rfl) (A := gk_A h (h + 1)) (Or.inl rfl) (fun q hq => Or.inr (by omega)) 58 it_wds 4 s.heap _ [] 0 0 it_wds_ch it_wds_ck j3 va_S.rf (by rw [it_wds_t.1]; exact Nat.le_refl _) (by rw [it_wds_t.2]; exact Nat.le_refl _) fun H1 locs1 f1 f2 f3 f4 f5 => ?_
  rw [it_wds_t.1, it_wds_t.2]
  rw [it_wds_t.1] at f1
  rw [hsz] at f1 f2 f3
  exact gk_vret (F := fun H => H.size = h + 7 ∧ gk_obI K D 2 h (h + 1) it_wds H) hx hb hrt hlk ⟨by omega, _, _, _, ty, j1, j2, f3, f2⟩ f5 (show decode y_wds.2.1 58 = _ by decide +kernel)

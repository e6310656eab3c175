/-! new C() where the constructor asks for more than the new object -/
section
variable {p : Program} {l : Launch} {e : Env} {R : Room} {s : State} {m : MethodId} {args : Array Value} {below : List Frame} {meth : Method} {c : Code} {H : Heap} {locs : List Loc} {cells slots : Nat} {Q : State → Prop}
theorem gk_newJ {y : jm_N} {n k cs ss nL pc idx idx2 : Nat} {rest : List Value} {K : Nat → ClassId} {D : va_G} {J : State → Prop} {F : Heap → Prop} {cc : ByteArray} {own C : String} {T : u_T} {N ci : Nat} {ls : Array Slot} {A : Nat → Prop} {H0 : Heap}
    (S : CallFix p m c cc nL s args ga_tb own) (hC : gk_C l y n k cs ss H.size (H.size + 1) [] K D J F) (hbl : jm_bl J) (hJ : ∀ (H1 : Heap), gk_ob0 D ci H.size H1 → H1.size = H.size + 1 → (∀ x : Nat, x < H.size → H1[x]? = H[x]?) → ∀ U : State, U.heap = H1 → s.WarmedH U.vm → J U) (hy : jm_good y) (hnm : y.1.name = "<init>") (hrt : y.2.2.2 = none) (hSt : gk_S K D s) (hc : am_cl[ci]? = some (C, T, N)) (hcl : Cond.classLink own idx C ∈ ga_gw) (hins : Cond.instantiable C N ∈ ga_gw) (hini : Cond.initialized C ∈ ga_gw)
    (hl : Cond.methodLink own idx2 y.1 ∈ ga_gw ∨ ∃ host, Cond.methodLinkNest own idx2 y.1 host ∈ ga_nw) (hin : Cond.instanceMethod y.1 ∈ ga_gw) (hdesc : (parseMethodDescriptor y.1.desc).map (fun d => d.parameters.length) = some 0) (hls : ls.size = nL) (hcat : (rest.map fun v => v.category).sum ≤ 7) (hd : decode cc pc = .ok (.new idx, 3)) (hd2 : decode cc (pc + 3) = .ok (.dup, 1)) (hd3 : decode cc (pc + 4) = .ok (.invokespecial idx2, 3))
    (hR : n + 1 ≤ R.frames ∧ 8 + (y.2.2.1 + 11) + k ≤ R.locals) (hf : cells + (1 + cs) ≤ R.cells ∧ slots + (N + ss) ≤ R.slots) (hS : va_S A H0 H locs) (hA2 : ∀ q, H0.size ≤ q → A q)
    (kk : ∀ (H1 : Heap) (locs1 : List Loc), F H1 → H.size + 1 ≤ H1.size → (∀ x : Nat, x < H.size → H1[x]? = H[x]?) → va_S A H0 H1 locs1 → W p l e R s m args below meth c H1 locs1 (cells + (1 + cs)) (slots + (N + ss)) Q (F0 m (pc + 7) ls (.ref H.size :: rest))) :
    W p l e R s m args below meth c H locs cells slots Q (F0 m pc ls rest) := by
  refine gk_new1 S hSt.2.2.1 hc hcl hins hini hd hd2 (by omega) hS fun H1 f1 f2 f3 f4 => ?_
  refine gk_call (extra := []) (rest := .ref H.size :: rest) S hC hy hnm hrt hbl hSt (fun U h1 h2 => hJ H1 f1 f2 f3 U h1 h2) hl hin hdesc hls (by simp only [List.map_cons, List.sum_cons]; show 1 + _ ≤ 8; omega) hd3 hR (by omega) f2 f4 (hA2 _ hS.1) hA2 fun H2 locs2 g1 g2 g3 g4 => ?_
  have := kk H2 locs2 g1 (by omega) (fun x hx => by rw [g3 x (by omega) (by omega)]; exact f3 x hx) g4
  rw [← Nat.add_assoc, ← Nat.add_assoc] at this
  exact this
end

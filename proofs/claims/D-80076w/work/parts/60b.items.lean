/-! straight code of constructors: arrays are made and put into final fields -/
section
variable {p : Program} {l : Launch} {e : Env} {R : Room} {s : State} {m : MethodId} {args : Array Value} {below : List Frame} {meth : Method} {c : Code} {H : Heap} {locs : List Loc} {cells slots : Nat} {Q : State → Prop}
variable {cc : ByteArray} {pc : Nat} {ls : Array Slot} {rest : List Value} {D : va_G} {cl : List vw_C} {a : Nat}
theorem gk_WputF (hexec : p.tables.exec = Jvm.exec) (hb : c.code = cc) {own : String} {T : u_T} {N ci index : Nat} (hts : ∀ w ∈ ga_tb, w.before args s = true) (hin : ∀ w ∈ u_ws own T N, w ∈ ga_tb) (ty0 : Nat → FieldType) (hty : ∀ k, k < N → parseFieldDescriptor (T k).2.2.1 = some (ty0 k)) (hnm : ∀ a, a < N → ∀ b, b < N → a ≠ b → (T a).2.1 ≠ (T b).2.1) (hown : s.vm.findClass own = some m.cls) (hK : va_K D cl [] s) {V : Nat → Value} (ho : t_OB a (D.1 ci) N (D.2 ci) H V) (hc : cl[ci]? = some (own, T, N)) (k : Nat) (hk : k < N)
    (hlink : Cond.fieldLink own index own (T k).2.1 (T k).2.2.1 ∈ ga_tb) (hTC : (T k).1 = own) (hfin : (T k).2.2.2 = true) (hin2 : meth.name = "<init>") {v : Value} (hn : narrow (ty0 k) v = v) (hfit : fits (ty0 k) v = true) (hdg : decode cc pc = .ok (.putfield index, 3))
    (kk : ∀ (H1 : Heap) (i : Nat), t_OB a (D.1 ci) N (D.2 ci) H1 (updV V k v) → H1.size = H.size → (∀ q : Nat, q ≠ a → H1[q]? = H[q]?) → W p l e R s m args below meth c H1 (locs ++ [⟨a, i⟩]) cells slots Q (F0 m (pc + 3) ls rest)) : W p l e R s m args below meth c H locs cells slots Q (F0 m pc ls (v :: .ref a :: rest)) := by
  have hap := va_apart (own := own) hts hin ty0 hty hnm hK hc
  obtain ⟨cell, q1, q2, q3, q4⟩ := ho
  obtain ⟨hS, hfc, kC, hkC, hkind⟩ := hK.1 ci _ hc
  obtain ⟨cf, kf, fi, f, hi, hsl⟩ := hS k hk
  have hlay := hts _ (hin _ (u_in_lay hk))
  unfold u_lay at hlay
  rw [if_pos hfin] at hlay
  have hst := (u_facts hfc hkC (u_lays hts hin hk) hi).1
  have hcf : m.cls = cf := by
    obtain ⟨_, _, c', _, _, _, -, -, hf', -, -, -, hown2, -⟩ := Cond.laysFinal_spec hlay
    have e1 : c' = cf := by have := hi.symm.trans hf'; simp at this; exact this.1.symm
    rw [hTC] at hown2
    rw [← e1]; exact Option.some.inj (hown.symm.trans hown2)
  have h6 := u_fits hfc hkC hkind (Or.inr hlay) hi (hty k hk) hn hfit
  rw [hTC] at hi
  refine W.putFinK hexec hb hown (hts _ hlink) hi hst hcf hin2 (by rw [q2]; exact h6) q1 q3 (by rw [hsl]; exact k2_hasslot (q4 k hk)) rfl rfl hdg fun H' e1 e2 e3 => ?_
  rw [hsl] at e1
  exact kk H' _ ⟨_, e1, q2, q3, t_set q4 hap hk v⟩ e2 e3
/-- a constant is pushed: how long the instruction is (0: none) -/
def gk_pu (cc : ByteArray) (pc n : Nat) : Nat := match decode cc pc with
  | .ok (.iconst v, 1) => if v = (n : Int) ∧ n < 128 then 1 else 0
  | .ok (.bipush v, 2) => if v = (n : Int) ∧ n < 128 then 2 else 0
  | .ok (.sipush v, 3) => if v = (n : Int) ∧ n < 32768 then 3 else 0
  | _ => 0
theorem gk_push (hexec : p.tables.exec = Jvm.exec) (hb : c.code = cc) {n len : Nat} (h : gk_pu cc pc n = len) (h0 : len ≠ 0) (kk : W p l e R s m args below meth c H locs cells slots Q (F0 m (pc + len) ls (.int (nI n) :: rest))) : W p l e R s m args below meth c H locs cells slots Q (F0 m pc ls rest) := by
  unfold gk_pu at h
  split at h
  · rename_i v hd
    split at h
    · rename_i hv
      subst h
      exact lv_iconst hexec hb hd (by rw [hv.1]; rfl) kk
    · exact absurd h.symm h0
  · rename_i v hd
    split at h
    · rename_i hv
      subst h
      exact lv_bipush hexec hb hd (by rw [hv.1, ga_bip (by omega) (by omega)]; rfl) kk
    · exact absurd h.symm h0
  · rename_i v hd
    split at h
    · rename_i hv
      subst h
      exact lv_sipush hexec hb hd (by rw [hv.1, ga_sip (by omega) (by omega)]; rfl) kk
    · exact absurd h.symm h0
  · exact absurd h.symm h0
/-- kinds of arrays -/
def gk_ty (e : Nat) : FieldType := match e with
  | 0 => .int | 1 => .byte | 2 => .boolean | 3 => .long | 4 => .object "RuleSentences$Rule" | 5 => .object "RuleSentences$Step" | 6 => .object "RuleSentences$Token" | 7 => .array .boolean | _ => .array .int
def gk_K (K : Nat → ClassId) (s : State) : Prop := ∀ e, e < 9 → s.vm.findClass ("[" ++ (gk_ty e).toString) = some (K e)
def gk_O (s : State) : Prop := va_AO "RuleSentences$Rule" s ∧ va_AO "RuleSentences$Step" s ∧ va_AO "RuleSentences$Token" s ∧ gm_ov .boolean s ∧ gm_ov .int s
def gk_in (e : Nat) : Nat := if e = 7 then 2 else 0
def gk_dv (e : Nat) : Value := if e < 3 then .int 0 else if e = 3 then .long 0 else .null
def gk_sz (e N : Nat) : Nat := if e < 7 then 1 else 1 + N
def gk_sl (e N M : Nat) : Nat := if e < 7 then N else N + N * M
def gk_ce (K : Nat → ClassId) (e N M h : Nat) (H : Heap) : Prop := if e < 7 then H[h]? = some (arrV (K e) N (fun _ => gk_dv e)) else H[h]? = some (arrV (K e) N (fun j => if j < N then .ref (h + 1 + j) else .null)) ∧ ∀ j : Nat, j < N → H[h + 1 + j]? = some (arrV (K (gk_in e)) M (fun _ => gk_dv (gk_in e)))
def gk_at (e : Nat) : ArrayType := if e = 0 then .int else if e = 1 then .byte else if e = 2 then .boolean else .long
def gk_cn (e : Nat) : String := if e = 4 then "RuleSentences$Rule" else if e = 5 then "RuleSentences$Step" else if e = 6 then "RuleSentences$Token" else if e = 7 then "[[Z" else "[[I"
/-- the instruction that makes the array, and its length -/
def gk_mk (e cidx : Nat) : Instr × Nat := if e < 4 then (.newarray (gk_at e), 2) else if e < 7 then (.anewarray cidx, 3) else (.multianewarray cidx 2, 4)
/-- the array is made -/
theorem gk_new (hexec : p.tables.exec = Jvm.exec) (hb : c.code = cc) {own : String} (hown : s.vm.findClass own = some m.cls) (hts : ∀ w ∈ ga_tb, w.before args s = true) (hO : gk_O s) {K : Nat → ClassId} (hKn : gk_K K s) {e0 N M cidx : Nat} (he : e0 < 9) (hcl : 4 ≤ e0 → Cond.classLink own cidx (gk_cn e0) ∈ ga_tb) (har : ∀ ty, (ty = .int ∨ ty = .byte ∨ ty = .boolean ∨ ty = .long) → Cond.arrayClass ty ∈ ga_tb) (hN : N < 100000) (hM : M < 100000)
    (hdg : decode cc pc = .ok (gk_mk e0 cidx)) {h : Nat} (hh : H.size = h) (hcells : cells + gk_sz e0 N ≤ R.cells) (hslots : slots + gk_sl e0 N M ≤ R.slots)
    (kk : ∀ (H1 : Heap) (L : List Loc), H1.size = h + gk_sz e0 N → gk_ce K e0 N M h H1 → (∀ q : Nat, q < h → H1[q]? = H[q]?) → (∀ q ∈ L, h ≤ q.base) → W p l e R s m args below meth c H1 (locs ++ L) (cells + gk_sz e0 N) (slots + gk_sl e0 N M) Q (F0 m (pc + (gk_mk e0 cidx).2) ls (.ref h :: rest))) :
    W p l e R s m args below meth c H locs cells slots Q (F0 m pc ls ((if e0 < 7 then [] else [Value.int (nI M)]) ++ .int (nI N) :: rest)) := by
  have cN : (nI N).toNatClampNeg = N := nI_clamp (by omega)
  have cM : (nI M).toNatClampNeg = M := nI_clamp (by omega)
  have pN : ¬ nI N < 0 := nI_pos (by omega)
  have pM : ¬ nI M < 0 := nI_pos (by omega)
  by_cases h4 : e0 < 4
  · have e7 : e0 < 7 := by omega
    have em : gk_mk e0 cidx = (.newarray (gk_at e0), 2) := by unfold gk_mk; rw [if_pos h4]
    have esz : gk_sz e0 N = 1 := by unfold gk_sz; rw [if_pos e7]
    have esl : gk_sl e0 N M = N := by unfold gk_sl; rw [if_pos e7]
    rw [em] at hdg kk
    rw [esz] at hcells kk
    rw [esl] at hslots kk
    rw [if_pos e7, List.nil_append]
    have hty : newarray.typeOf (gk_at e0) = gk_ty e0 ∧ defaultValue (gk_ty e0) = gk_dv e0 ∧ componentBytes (gk_ty e0) ≤ 8 ∧ (gk_ty e0 = .int ∨ gk_ty e0 = .byte ∨ gk_ty e0 = .boolean ∨ gk_ty e0 = .long) := by
      have : e0 = 0 ∨ e0 = 1 ∨ e0 = 2 ∨ e0 = 3 := by omega
      rcases this with z | z | z | z <;> subst z <;> exact ⟨rfl, rfl, by decide, by decide⟩
    refine va_newaK hexec hb (atype := gk_at e0) (by rw [hty.1]; exact hts _ (har _ hty.2.2.2)) rfl hdg rfl pN cN (by rw [hty.1]; have := Nat.mul_le_mul_left N hty.2.2.1; omega) hcells hslots hh fun H1 cA f1 f2 f3 f4 f5 => ?_
    rw [hty.1] at f1 f5
    have ek : cA = K e0 := Option.some.inj (f5.symm.trans (hKn e0 he))
    have := kk H1 [] f2 (by unfold gk_ce; rw [if_pos e7, f1, ek, hty.2.1]) f3 (fun q hq => absurd hq (by simp))
    rw [List.append_nil] at this
    exact this
  · by_cases e7 : e0 < 7
    · have em : gk_mk e0 cidx = (.anewarray cidx, 3) := by unfold gk_mk; rw [if_neg h4, if_pos e7]
      have esz : gk_sz e0 N = 1 := by unfold gk_sz; rw [if_pos e7]
      have esl : gk_sl e0 N M = N := by unfold gk_sl; rw [if_pos e7]
      rw [em] at hdg kk
      rw [esz] at hcells kk
      rw [esl] at hslots kk
      rw [if_pos e7, List.nil_append]
      have hty : ∃ C, gk_ty e0 = .object C ∧ gk_cn e0 = C ∧ va_AO C s ∧ gk_dv e0 = .null := by
        have : e0 = 4 ∨ e0 = 5 ∨ e0 = 6 := by omega
        rcases this with z | z | z <;> subst z
        · exact ⟨_, rfl, rfl, hO.1, rfl⟩
        · exact ⟨_, rfl, rfl, hO.2.1, rfl⟩
        · exact ⟨_, rfl, rfl, hO.2.2.1, rfl⟩
      obtain ⟨C, t1, t2, t3, t4⟩ := hty
      have hc2 := hts _ (hcl (by omega))
      rw [t2] at hc2
      refine W.anew hexec hb hown hc2 (va_AO.use t3) rfl hdg rfl pN (by rw [cN]; omega) hcells (by rw [cN]; exact hslots) fun cA kA comp f1 f2 f3 f4 => ?_
      have hk := hKn e0 he
      rw [t1] at hk
      have ek : cA = K e0 := Option.some.inj (f1.symm.trans hk)
      rw [cN, arrV_new]
      subst hh
      have := kk (H.push (arrV cA N (fun _ => .null))) [] (by rw [Array.size_push]) (by unfold gk_ce; rw [if_pos e7, Array.getElem?_push_size, ek, t4]) (fun q hq => by rw [Array.getElem?_push, if_neg (Nat.ne_of_lt hq)]) (fun q hq => absurd hq (by simp))
      rw [List.append_nil] at this
      exact this
    · have em : gk_mk e0 cidx = (.multianewarray cidx 2, 4) := by unfold gk_mk; rw [if_neg h4, if_neg e7]
      have esz : gk_sz e0 N = 1 + N := by unfold gk_sz; rw [if_neg e7]
      have esl : gk_sl e0 N M = N + N * M := by unfold gk_sl; rw [if_neg e7]
      rw [em] at hdg kk
      rw [esz] at hcells kk
      rw [esl] at hslots kk
      rw [if_neg e7]
      have hty : ∃ ty, gk_ty e0 = .array ty ∧ gk_cn e0 = "[" ++ (FieldType.array ty).toString ∧ gm_ov ty s ∧ (ty = .int ∨ ty = .byte ∨ ty = .boolean ∨ ty = .long) ∧ fits ty (defaultValue ty) = true ∧ componentBytes ty ≤ 8 ∧ gk_ty (gk_in e0) = ty ∧ gk_in e0 < 9 ∧ defaultValue ty = gk_dv (gk_in e0) := by
        have : e0 = 7 ∨ e0 = 8 := by omega
        rcases this with z | z <;> subst z
        · exact ⟨.boolean, rfl, by decide, hO.2.2.2.1, by decide, by decide, by decide, rfl, by decide, rfl⟩
        · exact ⟨.int, rfl, by decide, hO.2.2.2.2, by decide, by decide, by decide, rfl, by decide, rfl⟩
      obtain ⟨ty, t1, t2, t3, t4, t5, t6, t7, t8, t9⟩ := hty
      have hc2 := hts _ (hcl (by omega))
      rw [t2] at hc2
      refine gm_multi hexec hb hown hc2 t3 (hts _ (har _ t4)) t5 hdg cN cM pN pM (by omega) (by have := Nat.mul_le_mul_left M t6; omega) (by omega) hcells hslots fun H1 L cA cB f1 f2 f3 f4 f5 f6 => ?_
      have hk := hKn e0 he
      rw [t1] at hk
      have ek : cA = K e0 := Option.some.inj (f1.symm.trans hk)
      have hk2 := hKn (gk_in e0) t8
      rw [t7] at hk2
      have ek2 : cB = K (gk_in e0) := Option.some.inj (f2.symm.trans hk2)
      subst hh
      have := kk H1 L (by rw [f5.1]; omega) (by unfold gk_ce; rw [if_neg e7, ← ek, ← ek2, ← t9]; exact ⟨f5.2.1, f5.2.2.1⟩) f5.2.2.2 (fun q hq => by rw [f6 q hq]; exact Nat.le_refl _)
      rw [← Nat.add_assoc, ← Nat.add_assoc] at this
      exact this
end

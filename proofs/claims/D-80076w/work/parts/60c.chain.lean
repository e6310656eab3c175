/-! chains of such items -/
/-- pc, lengths of the pushes, kind, lengths, field, pool's entries of field and class, places of their words -/
abbrev gk_it : Type := (Nat × Nat × Nat) × (Nat × Nat × Nat) × (Nat × Nat × Nat) × Nat × Nat
def gk_pc (t : gk_it) : Nat := t.1.1
def gk_l1 (t : gk_it) : Nat := t.1.2.1
def gk_l2 (t : gk_it) : Nat := t.1.2.2
def gk_e (t : gk_it) : Nat := t.2.1.1
def gk_n (t : gk_it) : Nat := t.2.1.2.1
def gk_m (t : gk_it) : Nat := t.2.1.2.2
def gk_k (t : gk_it) : Nat := t.2.2.1.1
def gk_fi (t : gk_it) : Nat := t.2.2.1.2.1
def gk_ci (t : gk_it) : Nat := t.2.2.1.2.2
def gk_fp (t : gk_it) : Nat := t.2.2.2.1
def gk_cp (t : gk_it) : Nat := t.2.2.2.2
def gk_p2 (t : gk_it) : Nat := gk_pc t + 1 + gk_l1 t + gk_l2 t
def gk_p3 (t : gk_it) : Nat := gk_p2 t + (gk_mk (gk_e t) (gk_ci t)).2
def gk_nx (t : gk_it) : Nat := gk_p3 t + 3
def gk_isR (d : String) : Bool := match parseFieldDescriptor d with
  | some (.object _) => true
  | some (.array _) => true
  | _ => false
def gk_ckI (cc : ByteArray) (own : String) (T : u_T) (Nf : Nat) (t : gk_it) : Bool :=
  decide (decode cc (gk_pc t) = .ok (.aload_n 0, 1)) && decide (gk_pu cc (gk_pc t + 1) (gk_n t) = gk_l1 t) && !(Nat.beq (gk_l1 t) 0) &&
  (if gk_e t < 7 then Nat.beq (gk_l2 t) 0 else decide (gk_pu cc (gk_pc t + 1 + gk_l1 t) (gk_m t) = gk_l2 t) && !(Nat.beq (gk_l2 t) 0)) &&
  decide (decode cc (gk_p2 t) = .ok (gk_mk (gk_e t) (gk_ci t))) && decide (decode cc (gk_p3 t) = .ok (.putfield (gk_fi t), 3)) &&
  Nat.blt (gk_e t) 9 && Nat.blt (gk_n t) 100000 && Nat.blt (gk_m t) 100000 && Nat.blt (gk_k t) Nf && decide ((T (gk_k t)).1 = own) && (T (gk_k t)).2.2.2 && gk_isR (T (gk_k t)).2.2.1 &&
  am_at (gk_fp t) (.fieldLink own (gk_fi t) own (T (gk_k t)).2.1 (T (gk_k t)).2.2.1) && (Nat.blt (gk_e t) 4 || am_at (gk_cp t) (.classLink own (gk_ci t) (gk_cn (gk_e t))))
theorem gk_in_tb {w : Cond} (h : w ∈ ga_gw) : w ∈ ga_tb := List.mem_append_left _ h
theorem gk_fitR {d : String} (h : gk_isR d = true) {ty : FieldType} (hd : parseFieldDescriptor d = some ty) (q : Nat) : narrow ty (.ref q) = .ref q ∧ fits ty (.ref q) = true := by
  unfold gk_isR at h
  rw [hd] at h
  cases ty <;> first | exact ⟨rfl, rfl⟩ | cases h
theorem gk_ce_kept {K : Nat → ClassId} {e0 N M h : Nat} {H H1 : Heap} (g : gk_ce K e0 N M h H) (hq : ∀ q : Nat, h ≤ q → q < h + gk_sz e0 N → H1[q]? = H[q]?) : gk_ce K e0 N M h H1 := by
  unfold gk_ce at g ⊢
  unfold gk_sz at hq
  by_cases e7 : e0 < 7
  · rw [if_pos e7] at g hq ⊢
    rw [hq h (Nat.le_refl _) (by omega)]; exact g
  · rw [if_neg e7] at g hq ⊢
    exact ⟨by rw [hq h (Nat.le_refl _) (by omega)]; exact g.1, fun j hj => by rw [hq (h + 1 + j) (by omega) (by omega)]; exact g.2 j hj⟩
def gk_tot : List gk_it → Nat
  | [] => 0
  | t :: r => gk_sz (gk_e t) (gk_n t) + gk_tot r
def gk_tsl : List gk_it → Nat
  | [] => 0
  | t :: r => gk_sl (gk_e t) (gk_n t) (gk_m t) + gk_tsl r
def gk_V (V : Nat → Value) (h : Nat) : List gk_it → Nat → Value
  | [] => V
  | t :: r => gk_V (updV V (gk_k t) (.ref h)) (h + gk_sz (gk_e t) (gk_n t)) r
def gk_all (K : Nat → ClassId) (h : Nat) (H : Heap) : List gk_it → Prop
  | [] => True
  | t :: r => gk_ce K (gk_e t) (gk_n t) (gk_m t) h H ∧ gk_all K (h + gk_sz (gk_e t) (gk_n t)) H r
def gk_ch (pc1 : Nat) : List gk_it → Nat → Bool
  | [], pc0 => Nat.beq pc0 pc1
  | t :: r, pc0 => Nat.beq (gk_pc t) pc0 && gk_ch pc1 r (gk_nx t)
section
variable {p : Program} {l : Launch} {e : Env} {R : Room} {s : State} {m : MethodId} {args : Array Value} {below : List Frame} {meth : Method} {c : Code} {Q : State → Prop}
variable {cc : ByteArray} {ls : Array Slot} {D : va_G} {a : Nat}
theorem gk_arr : ∀ ty, (ty = .int ∨ ty = .byte ∨ ty = .boolean ∨ ty = .long) → Cond.arrayClass ty ∈ ga_tb := by
  intro ty h
  refine gk_in_tb ?_
  rcases h with h | h | h | h <;> subst h
  · exact am_at_g (pos := 1077) (by decide +kernel) rfl
  · exact am_at_g (pos := 1076) (by decide +kernel) rfl
  · exact am_at_g (pos := 1125) (by decide +kernel) rfl
  · exact am_at_g (pos := 11134) (by decide +kernel) rfl
theorem gk_cls {ci : Nat} {C : String} {T : u_T} {N : Nat} (hc : am_cl[ci]? = some (C, T, N)) : (∀ w ∈ u_ws C T N, w ∈ ga_tb) ∧ (∀ a, a < N → ∀ b, b < N → a ≠ b → (T a).2.1 ≠ (T b).2.1) ∧ ∃ ty : Nat → FieldType, ∀ k, k < N → parseFieldDescriptor (T k).2.2.1 = some (ty k) := by
  have h := (am_TB (E := (fun _ _ => 0, fun _ => 0, fun _ _ => 0)) (cnt := fun _ => 0) (SS := fun _ _ _ => True) (fun c n c' n' h => absurd h (Nat.not_lt_zero _)) (fun _ _ => rfl)).2.2.1 ci C T N hc
  obtain ⟨h1, h2, ty, h3⟩ := h
  exact ⟨h1, h2, ty, fun k hk => (h3 k hk).1⟩
theorem gk_its (hexec : p.tables.exec = Jvm.exec) (hb : c.code = cc) {own : String} (hown : s.vm.findClass own = some m.cls) (hts : ∀ w ∈ ga_tb, w.before args s = true) (hO : gk_O s) {K : Nat → ClassId} (hKn : gk_K K s) (hK : va_K D am_cl [] s) {ci Nf : Nat} {T : u_T} (hc : am_cl[ci]? = some (own, T, Nf)) (hin2 : meth.name = "<init>") (hl : ls[0]? = some (.val (.ref a))) {A : Nat → Prop} {H0 : Heap} (hA : A a) (hA2 : ∀ q, H0.size ≤ q → A q) (pc1 : Nat) :
    ∀ (its : List gk_it) (pc0 : Nat) (H : Heap) (V : Nat → Value) (locs : List Loc) (cells slots : Nat), gk_ch pc1 its pc0 = true → its.all (gk_ckI cc own T Nf) = true → t_OB a (D.1 ci) Nf (D.2 ci) H V → va_S A H0 H locs → cells + gk_tot its ≤ R.cells → slots + gk_tsl its ≤ R.slots →
      (∀ (H1 : Heap) (locs1 : List Loc), H1.size = H.size + gk_tot its → gk_all K H.size H1 its → t_OB a (D.1 ci) Nf (D.2 ci) H1 (gk_V V H.size its) → (∀ q : Nat, q < H.size → q ≠ a → H1[q]? = H[q]?) → va_S A H0 H1 locs1 → W p l e R s m args below meth c H1 locs1 (cells + gk_tot its) (slots + gk_tsl its) Q (F0 m pc1 ls [])) →
      W p l e R s m args below meth c H locs cells slots Q (F0 m pc0 ls []) := by
  obtain ⟨hin, hnm, ty, hty⟩ := gk_cls hc
  intro its
  induction its with
  | nil =>
    intro pc0 H V locs cells slots hch _ ho hS _ _ kk
    have e0 : pc0 = pc1 := Nat.eq_of_beq_eq_true hch
    rw [e0]
    exact kk H locs rfl trivial ho (fun _ _ _ => rfl) hS
  | cons t r ih =>
    intro pc0 H V locs cells slots hch hall ho hS hcl hsl kk
    rw [List.all_cons, Bool.and_eq_true] at hall
    obtain ⟨h1, h2⟩ := Bool.and_eq_true_iff.mp (show (Nat.beq (gk_pc t) pc0 && gk_ch pc1 r (gk_nx t)) = true from hch)
    have epc : gk_pc t = pc0 := Nat.eq_of_beq_eq_true h1
    have ck := hall.1
    unfold gk_ckI at ck
    simp only [Bool.and_eq_true, decide_eq_true_eq, Bool.not_eq_true', Bool.or_eq_true] at ck
    obtain ⟨⟨⟨⟨⟨⟨⟨⟨⟨⟨⟨⟨⟨⟨k1, k2⟩, k3⟩, k4⟩, k5⟩, k6⟩, k7⟩, k8⟩, k9⟩, k10⟩, k11⟩, k12⟩, k13⟩, k14⟩, k15⟩ := ck
    have l1 : gk_l1 t ≠ 0 := fun z => by rw [z] at k3; exact absurd k3 (by decide)
    have e9 : gk_e t < 9 := Nat.le_of_ble_eq_true k7
    have n5 : gk_n t < 100000 := Nat.le_of_ble_eq_true k8
    have m5 : gk_m t < 100000 := Nat.le_of_ble_eq_true k9
    have kN : gk_k t < Nf := Nat.le_of_ble_eq_true k10
    rw [← epc]
    have eT : gk_tot (t :: r) = gk_sz (gk_e t) (gk_n t) + gk_tot r := rfl
    have eL : gk_tsl (t :: r) = gk_sl (gk_e t) (gk_n t) (gk_m t) + gk_tsl r := rfl
    refine lv_aload_n hexec hb k1 rfl hl ?_
    refine gk_push hexec hb k2 l1 ?_
    have goNew : W p l e R s m args below meth c H locs cells slots Q (F0 m (gk_p2 t) ls ((if gk_e t < 7 then [] else [Value.int (nI (gk_m t))]) ++ .int (nI (gk_n t)) :: [.ref a])) := by
      refine gk_new hexec hb hown hts hO hKn e9 (fun h4 => gk_in_tb (am_at_g (k15.resolve_left (fun z => by have := Nat.le_of_ble_eq_true z; omega)) rfl)) gk_arr n5 m5 k5 rfl (by omega) (by omega) fun H1 L f1 f2 f3 f4 => ?_
      have alt : a < H.size := by
        obtain ⟨cell, q1, _⟩ := ho
        exact (Array.getElem?_eq_some_iff.mp q1).1
      have ho1 : t_OB a (D.1 ci) Nf (D.2 ci) H1 V := ho.kept (f3 a alt)
      have fit := gk_fitR k13 (hty _ kN) H.size
      refine gk_WputF hexec hb hts hin ty hty hnm hown hK ho1 hc (gk_k t) kN (gk_in_tb (am_at_g k14 rfl)) k11 k12 hin2 fit.1 fit.2 k6 fun H2 i g1 g2 g3 => ?_
      have szp : 1 ≤ gk_sz (gk_e t) (gk_n t) := by unfold gk_sz; split <;> omega
      have hz2 : H2.size = H.size + gk_sz (gk_e t) (gk_n t) := by rw [g2, f1]
      have hS2 : va_S A H0 H2 ((locs ++ L) ++ [⟨a, i⟩]) := by
        refine ⟨by rw [hz2]; exact Nat.le_trans hS.1 (by omega), fun q q1 q2 => ?_, fun q hq => ?_⟩
        · rw [g3 q (fun z => q2 (by rw [z]; exact hA)), f3 q (Nat.lt_of_lt_of_le q1 hS.1)]
          exact hS.2.1 q q1 q2
        · rcases List.mem_append.mp hq with h | h
          · rcases List.mem_append.mp h with h | h
            · exact hS.2.2 q h
            · exact hA2 _ (Nat.le_trans hS.1 (f4 q h))
          · rw [List.mem_singleton.mp h]; exact hA
      refine ih (gk_nx t) H2 (updV V (gk_k t) (.ref H.size)) _ _ _ h2 hall.2 g1 hS2 (by omega) (by omega) fun H3 locs3 j1 j2 j3 j4 j5 => ?_
      rw [hz2] at j1 j2 j3 j4
      have := kk H3 locs3 (by rw [j1, eT]; omega) ⟨gk_ce_kept f2 (fun q q1 q2 => by rw [j4 q q2 (by omega), g3 q (by omega)]), j2⟩ j3 (fun q q1 q2 => by rw [j4 q (by omega) q2, g3 q q2, f3 q q1]) j5
      rw [eT, eL, ← Nat.add_assoc, ← Nat.add_assoc] at this
      exact this
    by_cases e7 : gk_e t < 7
    · rw [if_pos e7] at k4 goNew
      have z : gk_l2 t = 0 := Nat.eq_of_beq_eq_true k4
      have ep : gk_p2 t = gk_pc t + 1 + gk_l1 t := by unfold gk_p2; rw [z, Nat.add_zero]
      rw [ep] at goNew
      exact goNew
    · rw [if_neg e7] at k4 goNew
      simp only [Bool.and_eq_true, decide_eq_true_eq, Bool.not_eq_true'] at k4
      exact gk_push hexec hb k4.1 (fun z => by rw [z] at k4; exact absurd k4.2 (by decide)) goNew
end

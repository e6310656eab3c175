/-! AM is sound, 3: one step -/
abbrev ga_CX : Type := Program × Launch × Env × Room × State × MethodId × Array Value × List Frame × Method × Code × (State → Prop) × Nat × Nat
def ga_W (X : ga_CX) (H : Heap) (locs : List Loc) (k pc : Nat) (ls : Array Slot) (sv : List Value) : Prop := match X with
  | (p, l, e, R, s, m, args, below, meth, c, Q, _, _) => W p l e R s m args below meth c H locs (2 * k) (32 * k) Q (F0 m pc ls sv)
def ga_xs (X : ga_CX) : State := X.2.2.2.2.1
def ga_xn (X : ga_CX) : Nat := X.2.2.2.2.2.2.2.2.2.2.2.1
def ga_xa (X : ga_CX) : Nat := X.2.2.2.2.2.2.2.2.2.2.2.2
def ga_xS (Y : ga_Y) (X : ga_CX) (H : Heap) (locs : List Loc) : Prop := va_S (ga_Ar Y (ga_xs X).heap.size) (ga_xs X).heap H locs
def ga_F (Y : ga_Y) (X : ga_CX) (pc : Nat) (L : ga_L) (st : List ga_V) (σ : ga_S) : Prop :=
  ∀ (H : Heap) (ls : Array Slot) (sv : List Value) (locs : List Loc), ga_Hd Y σ H → ga_LR Y H (ga_xn X) L ls → ga_SR Y H st sv → ga_xS Y X H locs → ga_xa X ≤ ga_al σ → ga_W X H locs (ga_al σ - ga_xa X) pc ls sv
def ga_rtag (rk : Nat) : Nat := if rk = 1 then 1 else rk - 3
def ga_Qc (Y : ga_Y) (rk : Nat) (r : ga_R) : Array Value → State → Outcome → State → Prop := fun _ st o t =>
  (∃ w : Option Value, o = .returned w ∧ if rk = 4 then w = none else ∃ w', w = some w' ∧ ga_vr Y t.heap (ga_rtag rk, r.1) w') ∧ ga_Hd Y r.2 t.heap ∧ ga_keep Y st.heap t.heap
/-- what holds of an activation -/
def ga_ok (Y : ga_Y) (X : ga_CX) (cc : ByteArray) (own : String) (rk : Nat) (r : ga_R) : Prop := match X with
  | (p, _, _, R, s, m, args, below, meth, c, Q, nL, a0) => p.tables.exec = Jvm.exec ∧ c.code = cc ∧ c.maxLocals = nL ∧ s.vm.findClass own = some m.cls ∧ (∀ w ∈ ga_tb, w.before args s = true) ∧ meth.locks = false ∧ ga_KN Y s ∧
    Q = MQ below (ga_Qc Y rk r) args s (2 * (ga_al r.2 - a0)) (32 * (ga_al r.2 - a0)) (ga_Ar Y s.heap.size) ∧ (2 * (ga_al r.2 - a0) ≤ R.cells ∧ 32 * (ga_al r.2 - a0) ≤ R.slots) ∧
    (rk = 0 → meth.sig.returnType = some .int) ∧ (rk = 1 → meth.sig.returnType = some .long) ∧ (rk = 2 → meth.sig.returnType = some .boolean) ∧ (rk = 4 → meth.sig.returnType = none) ∧ (5 ≤ rk → ∃ n, meth.sig.returnType = some (.object n))
def ga_len (i : Instr) : Nat := match i with
  | .bipush _ | .ldc _ | .iload _ | .lload _ | .aload _ | .istore _ | .lstore _ | .astore _ => 2
  | .sipush _ | .ldc_w _ | .ldc2_w _ | .iinc _ _ | .ifCond _ _ | .if_icmp _ _ | .if_acmp _ _ | .goto _ | .getstatic _ | .getfield _ | .putfield _ | .invokestatic _ | .invokevirtual _ => 3
  | _ => 1
/-- what an instruction's operands must mean: ml a method's link, gs a static's, lc a constant's -/
def ga_crt (Y : ga_Y) (nL : Nat) (own : String) (ml : Nat → Bool → Nat → Nat → Nat → Int → Prop) (gs lc : Nat → Nat → Int → Prop) (cc : ByteArray) (i : Instr) (pc nx a b c e : Nat) (d : Int) : Prop := match i with
  | .tableswitch q lo hi offs => (∃ len, decode cc pc = .ok (i, len)) ∧ hi = lo + offs.size - 1 ∧ 0 ≤ (pc : Int) + q ∧ ∀ o ∈ offs.toList, 0 ≤ (pc : Int) + o
  | .lookupswitch q ps => (∃ len, decode cc pc = .ok (i, len)) ∧ (ps.toList.zip (ps.toList.drop 1)).all (fun (a, next) => a.1 < next.1) = true ∧ 0 ≤ (pc : Int) + q ∧ ∀ o ∈ ps.toList, 0 ≤ (pc : Int) + o.2
  | i => decode cc pc = .ok (i, ga_len i) ∧ nx = pc + ga_len i ∧ (match i with
    | .ifCond _ off | .if_icmp _ off | .if_acmp _ off | .goto off => (pc : Int) + off = (a : Int)
    | .getfield idx | .putfield idx => Y.2.2.1.2.1 a b = (c, e, d) ∧ ∃ (C : String) (T : u_T) (N : Nat), Y.2.2.2.2.1[a]? = some (C, T, N) ∧ b < N ∧ (Cond.fieldLink own idx C (T b).2.1 (T b).2.2.1 ∈ ga_tb ∨ ∃ host, Cond.fieldLinkNest own idx C (T b).2.1 (T b).2.2.1 host ∈ ga_tb)
    | .getstatic idx => gs idx a d
    | .ldc idx | .ldc_w idx => lc idx a d ∧ a ≠ 1
    | .ldc2_w idx => lc idx 1 d
    | .istore k | .astore k => k < nL
    | .lstore k => k + 1 < nL
    | .istore_n k | .astore_n k => k.val < nL
    | .lstore_n k => k.val + 1 < nL
    | .iinc k _ => k < nL
    | .invokestatic idx => ml idx false a b c d
    | .invokevirtual idx => ml idx true a b c d
    | _ => True)
/-- a call's receiver -/
def ga_rok (Y : ga_Y) (inst : Bool) (rc : Nat) (vs : List ga_V) : Prop := inst = true → (rc = 999 ∧ ∃ x r, vs = (2, x) :: r) ∨ ∃ v r, vs = (rc + 3, v) :: r ∧ (Y.2.2.1.1 rc = true ∨ 0 ≤ v)
/-- how a call goes on -/
def ga_CR (Y : ga_Y) (X : ga_CX) (cc : ByteArray) (ml : Nat → Bool → Nat → Nat → Nat → Int → Prop) (call : Nat → List ga_V → ga_S → Option ga_R) : Prop :=
  ∀ (inst : Bool) (idx j na rc : Nat) (rt : Int), ml idx inst j na rc rt → ∀ (vs : List ga_V) (σ : ga_S) (q : ga_R), call j vs σ = some q → vs.length = na → ga_rok Y inst rc vs →
    ga_al σ ≤ ga_al q.2 ∧ ∀ (pc : Nat) (H : Heap) (ls : Array Slot) (svs srest : List Value) (locs : List Loc) (k : Nat), ls.size = ga_xn X → ga_Hd Y σ H → ga_SR Y H vs svs → (srest.map fun v => v.category).sum ≤ 8 → ga_xS Y X H locs →
      decode cc pc = .ok (if inst = true then .invokevirtual idx else .invokestatic idx, 3) → (2 * (k + (ga_al q.2 - ga_al σ)) ≤ X.2.2.2.1.cells ∧ 32 * (k + (ga_al q.2 - ga_al σ)) ≤ X.2.2.2.1.slots) →
      (∀ (H1 : Heap) (locs1 : List Loc) (rv : List Value), ga_Hd Y q.2 H1 → ga_keep Y H H1 → (if rt = -1 then rv = [] else ∃ w, rv = [w] ∧ ga_vr Y H1 (rt.toNat, q.1) w) → ga_xS Y X H1 locs1 → ga_W X H1 locs1 (k + (ga_al q.2 - ga_al σ)) (pc + 3) ls (rv ++ srest)) →
      ga_W X H locs k pc ls (svs.reverse ++ srest)
/-- statics and constants -/
def ga_SP (Y : ga_Y) (X : ga_CX) (cc : ByteArray) (gs lc : Nat → Nat → Int → Prop) : Prop :=
  (∀ idx a d, gs idx a d → ∀ (pc : Nat) (H : Heap) (ls : Array Slot) (sv : List Value) (locs : List Loc) (k : Nat), decode cc pc = .ok (.getstatic idx, 3) → ga_xS Y X H locs → (∀ w, ga_vr Y H (a, d) w → ga_W X H locs k (pc + 3) ls (w :: sv)) → ga_W X H locs k pc ls sv) ∧
  (∀ idx a d, lc idx a d → a ≠ 1 → ∀ (pc : Nat) (H : Heap) (ls : Array Slot) (sv : List Value) (locs : List Loc) (k : Nat) (i : Instr), (i = .ldc idx ∧ decode cc pc = .ok (i, 2) ∨ i = .ldc_w idx ∧ decode cc pc = .ok (i, 3)) → ga_xS Y X H locs → (∀ w, ga_vr Y H (a, d) w → ga_W X H locs k (pc + ga_len i) ls (w :: sv)) → ga_W X H locs k pc ls sv) ∧
  (∀ idx d, lc idx 1 d → ∀ (pc : Nat) (H : Heap) (ls : Array Slot) (sv : List Value) (locs : List Loc) (k : Nat), decode cc pc = .ok (.ldc2_w idx, 3) → ga_xS Y X H locs → (∀ w, ga_vr Y H (1, d) w → ga_W X H locs k (pc + 3) ls (w :: sv)) → ga_W X H locs k pc ls sv)
/-! locals -/
def ga_all (ls : Array Slot) : List (Nat × Value) := (List.range ls.size).filterMap (fun (i : Nat) => match (ls[i]? : Option Slot) with
  | some (Slot.val w) => some (i, w)
  | _ => none)
theorem ga_all_mem {ls : Array Slot} {i : Nat} {w : Value} : (i, w) ∈ ga_all ls ↔ ls[i]? = some (.val w) := by
  unfold ga_all
  rw [List.mem_filterMap]
  constructor
  · rintro ⟨j, -, h⟩
    split at h
    · rename_i w' e
      cases h
      exact e
    · cases h
  · intro h
    refine ⟨i, List.mem_range.mpr (Array.getElem?_eq_some_iff.mp h).1, ?_⟩
    rw [h]
theorem ga_all_has {ls : Array Slot} {nL : Nat} (h1 : ls.size = nL) (h2 : lv_wf ls) : lv_has ls nL (ga_all ls) := ⟨h1, h2, fun q hq => ga_all_mem.mp (show (q.1, q.2) ∈ ga_all ls from hq)⟩
def ga_sL (L : ga_L) (i t : Nat) (v : Int) : ga_L := L.filter (fun q => !(Nat.beq q.1 i || (Nat.beq (q.1 + 1) i && Nat.beq q.2.1 1) || (Nat.beq t 1 && Nat.beq q.1 (i + 1)))) ++ [(i, t, v)]
theorem ga_set_eq {ρ : Type} (i t : Nat) (v : Int) (L : ga_L) : ∀ k : ga_L → Option ρ, ga_set L i t v k = k (ga_sL L i t v) := by
  induction L with
  | nil => intro k; rfl
  | cons q r ih =>
    intro k
    obtain ⟨j, u, x⟩ := q
    simp only [ga_set, ih, ga_sL, List.filter_cons]
    by_cases h : (Nat.beq j i || (Nat.beq (j + 1) i && Nat.beq u 1) || (Nat.beq t 1 && Nat.beq j (i + 1))) = true
    · rw [h]; simp
    · rw [Bool.not_eq_true] at h; rw [h]; simp
theorem ga_sL_mem {L : ga_L} {i t : Nat} {v : Int} {q : Nat × ga_V} (h : q ∈ ga_sL L i t v) : q = (i, t, v) ∨ (q ∈ L ∧ q.1 ≠ i ∧ ¬ (q.1 + 1 = i ∧ q.2.1 = 1) ∧ ¬ (t = 1 ∧ q.1 = i + 1)) := by
  unfold ga_sL at h
  rcases List.mem_append.mp h with h | h
  · right
    obtain ⟨h1, h2⟩ := List.mem_filter.mp h
    simp only [Bool.not_eq_true', Bool.or_eq_false_iff, Bool.and_eq_false_iff] at h2
    obtain ⟨⟨a, b⟩, c⟩ := h2
    refine ⟨h1, fun e => ?_, fun e => ?_, fun e => ?_⟩
    · rw [e] at a; simp [Nat.beq_refl] at a
    · rw [e.1, e.2] at b; simp [Nat.beq_refl] at b
    · rw [e.1, e.2] at c; simp [Nat.beq_refl] at c
  · left
    exact List.mem_singleton.mp h
theorem ga_get_inv {ρ : Type} {L : ga_L} {i : Nat} {k : Nat → Int → Option ρ} {r : ρ} (h : ga_get L i k = some r) : ∃ t v, (i, t, v) ∈ L ∧ k t v = some r := by
  induction L with
  | nil => cases h
  | cons q l ih =>
    obtain ⟨j, t, v⟩ := q
    simp only [ga_get] at h
    cases e : Nat.beq j i with
    | true =>
      rw [e] at h
      have := Nat.eq_of_beq_eq_true e
      subst this
      exact ⟨t, v, List.mem_cons_self, h⟩
    | false =>
      rw [e] at h
      obtain ⟨t', v', h1, h2⟩ := ih h
      exact ⟨t', v', List.mem_cons_of_mem _ h1, h2⟩
theorem ga_LR_st {Y : ga_Y} {H : Heap} {nL : Nat} {L : ga_L} {ls ls' : Array Slot} {i t : Nat} {v : Int} {w : Value} (h : ga_LR Y H nL L ls) (hw : ga_vr Y H (t, v) w) (ht : t ≠ 1)
    (h' : lv_has ls' nL ((i, w) :: (ga_all ls).filter (fun q => !(q.1 == i) && !(q.1 + 1 == i && q.2.category == 2)))) : ga_LR Y H nL (ga_sL L i t v) ls' := by
  refine ⟨h'.1, h'.2.1, fun q hq => ?_⟩
  rcases ga_sL_mem hq with rfl | ⟨h1, h2, h3, -⟩
  · exact ⟨w, h'.2.2 (i, w) List.mem_cons_self, hw⟩
  · obtain ⟨w', e, hr⟩ := h.2.2 q h1
    refine ⟨w', h'.2.2 (q.1, w') (List.mem_cons_of_mem _ (List.mem_filter.mpr ⟨ga_all_mem.mpr e, ?_⟩)), hr⟩
    have hc := ga_vr_cat hr
    simp only [Bool.and_eq_true, Bool.not_eq_true', beq_eq_false_iff_ne, ne_eq]
    refine ⟨h2, ?_⟩
    by_cases e1 : q.1 + 1 = i
    · have : q.2.1 ≠ 1 := fun z => h3 ⟨e1, z⟩
      have h4 : w'.category = 1 := by
        rw [hc]
        unfold ga_cat
        cases hb : Nat.beq q.2.1 1 with
        | true => exact absurd (Nat.eq_of_beq_eq_true hb) this
        | false => rfl
      rw [h4]
      simp
    · simp [e1]
theorem ga_LR_st2 {Y : ga_Y} {H : Heap} {nL : Nat} {L : ga_L} {ls ls' : Array Slot} {i : Nat} {v : Int} {w : Value} (h : ga_LR Y H nL L ls) (hw : ga_vr Y H (1, v) w)
    (h' : lv_has ls' nL ((i, w) :: (ga_all ls).filter (fun q => !(q.1 == i) && (!(q.1 == i + 1) && !(q.1 + 1 == i && q.2.category == 2))))) : ga_LR Y H nL (ga_sL L i 1 v) ls' := by
  refine ⟨h'.1, h'.2.1, fun q hq => ?_⟩
  rcases ga_sL_mem hq with rfl | ⟨h1, h2, h3, h5⟩
  · exact ⟨w, h'.2.2 (i, w) List.mem_cons_self, hw⟩
  · obtain ⟨w', e, hr⟩ := h.2.2 q h1
    refine ⟨w', h'.2.2 (q.1, w') (List.mem_cons_of_mem _ (List.mem_filter.mpr ⟨ga_all_mem.mpr e, ?_⟩)), hr⟩
    have hc := ga_vr_cat hr
    simp only [Bool.and_eq_true, Bool.not_eq_true', beq_eq_false_iff_ne, ne_eq]
    refine ⟨h2, fun z => h5 ⟨rfl, z⟩, ?_⟩
    by_cases e1 : q.1 + 1 = i
    · have : q.2.1 ≠ 1 := fun z => h3 ⟨e1, z⟩
      have h4 : w'.category = 1 := by
        rw [hc]
        unfold ga_cat
        cases hb : Nat.beq q.2.1 1 with
        | true => exact absurd (Nat.eq_of_beq_eq_true hb) this
        | false => rfl
      rw [h4]
      simp
    · simp [e1]
/-! what a step's parts say when they give something -/
theorem ga_cond_inv {ρ : Type} {b : Bool} {x : Option ρ} {r : ρ} (h : (bif b then x else none) = some r) : b = true ∧ x = some r := by
  cases b
  · cases h
  · exact ⟨rfl, h⟩
theorem ga_ck_inv {ρ : Type} {i n : Int} {x : Option ρ} {r : ρ} (h : ga_ck i n x = some r) : 0 ≤ i ∧ i < n ∧ x = some r := by
  unfold ga_ck at h
  split at h
  · rename_i q; exact ⟨q.1, q.2, h⟩
  · cases h
theorem ga_nn_inv {ρ : Type} {n : Int} {x : Option ρ} {r : ρ} (h : ga_nn n x = some r) : 0 ≤ n ∧ x = some r := by
  unfold ga_nn at h
  split at h
  · rename_i q; exact ⟨q, h⟩
  · cases h
theorem ga_nz_inv {ρ : Type} {n : Int} {x : Option ρ} {r : ρ} (h : ga_nz n x = some r) : n ≠ 0 ∧ x = some r := by
  unfold ga_nz at h
  split at h
  · cases h
  · rename_i q; exact ⟨q, h⟩
theorem ga_01_inv {ρ : Type} {n : Int} {x : Option ρ} {r : ρ} (h : ga_01 n x = some r) : (n = 0 ∨ n = 1) ∧ x = some r := by
  unfold ga_01 at h
  split at h
  · rename_i q; exact ⟨q, h⟩
  · cases h
theorem ga_beq {a b : Nat} (h : Nat.beq a b = true) : a = b := Nat.eq_of_beq_eq_true h
theorem ga_blt {a b : Nat} (h : Nat.blt a b = true) : a < b := Nat.le_of_ble_eq_true h
section
variable {ρ : Type} {G : ga_G} {K : Nat → ga_L → List ga_V → ga_S → Option ρ} {r : ρ}
theorem ga_load_inv {t i nx : Nat} {L : ga_L} {st : List ga_V} {σ : ga_S} (h : ga_load K t i nx L st σ = some r) : ∃ u v, (i, u, v) ∈ L ∧ (t = u ∨ (t = 2 ∧ 1 < u)) ∧ K nx L ((u, v) :: st) σ = some r := by
  obtain ⟨u, v, h1, h2⟩ := ga_get_inv h
  obtain ⟨h3, h4⟩ := ga_cond_inv h2
  refine ⟨u, v, h1, ?_, h4⟩
  rcases Bool.or_eq_true_iff.mp h3 with q | q
  · exact Or.inl (ga_beq q)
  · have := Bool.and_eq_true_iff.mp q
    exact Or.inr ⟨ga_beq this.1, ga_blt this.2⟩
theorem ga_store_inv {t i nx : Nat} {L : ga_L} {st : List ga_V} {σ : ga_S} (h : ga_store K t i nx L st σ = some r) : ∃ u v rest, st = (u, v) :: rest ∧ (t = u ∨ (t = 2 ∧ 1 < u)) ∧ K nx (ga_sL L i u v) rest σ = some r := by
  unfold ga_store at h
  split at h
  · rename_i u v rest
    obtain ⟨h3, h4⟩ := ga_cond_inv h
    rw [ga_set_eq] at h4
    refine ⟨u, v, rest, rfl, ?_, h4⟩
    rcases Bool.or_eq_true_iff.mp h3 with q | q
    · exact Or.inl (ga_beq q)
    · have := Bool.and_eq_true_iff.mp q
      exact Or.inr ⟨ga_beq this.1, ga_blt this.2⟩
  · cases h
theorem ga_bin_inv {t u nx : Nat} {f : Int → Int → Int} {L : ga_L} {st : List ga_V} {σ : ga_S} (h : ga_bin K t u f nx L st σ = some r) : ∃ x y rest, st = (u, y) :: (t, x) :: rest ∧ K nx L ((t, f x y) :: rest) σ = some r := by
  unfold ga_bin at h
  split at h
  · rename_i t2 y t1 x rest
    obtain ⟨h3, h4⟩ := ga_cond_inv h
    have := Bool.and_eq_true_iff.mp h3
    have e1 := ga_beq this.1
    have e2 := ga_beq this.2
    subst e1; subst e2
    exact ⟨x, y, rest, rfl, h4⟩
  · cases h
theorem ga_una_inv {t u nx : Nat} {f : Int → Int} {L : ga_L} {st : List ga_V} {σ : ga_S} (h : ga_una K t u f nx L st σ = some r) : ∃ x rest, st = (t, x) :: rest ∧ K nx L ((u, f x) :: rest) σ = some r := by
  unfold ga_una at h
  split at h
  · rename_i t1 x rest
    obtain ⟨h3, h4⟩ := ga_cond_inv h
    have e1 := ga_beq h3
    subst e1
    exact ⟨x, rest, rfl, h4⟩
  · cases h
theorem ga_obj_inv {c : Nat} {n : Int} {k : Int → Option ρ} (h : ga_obj G c n k = some r) : (G.1 c = true ∧ k 0 = some r) ∨ (0 ≤ n ∧ k n = some r) := by
  unfold ga_obj at h
  cases e : G.1 c with
  | true => rw [e] at h; exact Or.inl ⟨rfl, h⟩
  | false => rw [e] at h; exact Or.inr (ga_nn_inv h)
end
theorem ga_spl_inv {ρ : Type} {r : ρ} {k : List ga_V → List ga_V → Option ρ} : ∀ (n : Nat) (st acc : List ga_V), ga_spl n st acc k = some r → ∃ vs rest, st = vs ++ rest ∧ vs.length = n ∧ k (vs.reverse ++ acc) rest = some r
  | 0, st, acc, h => ⟨[], st, rfl, rfl, by simpa [ga_spl] using h⟩
  | n + 1, [], acc, h => by simp [ga_spl] at h
  | n + 1, v :: st, acc, h => by
    simp only [ga_spl] at h
    obtain ⟨vs, rest, h1, h2, h3⟩ := ga_spl_inv n st (v :: acc) h
    refine ⟨v :: vs, rest, by rw [h1]; rfl, by simp [h2], ?_⟩
    simpa using h3
theorem ga_SR_app {Y : ga_Y} {H : Heap} : ∀ (a b : List ga_V) (sv : List Value), ga_SR Y H (a ++ b) sv → ∃ s1 s2, sv = s1 ++ s2 ∧ ga_SR Y H a s1 ∧ ga_SR Y H b s2
  | [], b, sv, h => ⟨[], sv, rfl, trivial, h⟩
  | v :: a, b, sv, h => by
    obtain ⟨w, r, rfl, h1, h2⟩ := ga_SR_c h
    obtain ⟨s1, s2, rfl, h3, h4⟩ := ga_SR_app a b r h2
    exact ⟨w :: s1, s2, rfl, ⟨h1, h3⟩, h4⟩
theorem ga_SR_join {Y : ga_Y} {H : Heap} : ∀ (a b : List ga_V) (s1 s2 : List Value), ga_SR Y H a s1 → ga_SR Y H b s2 → ga_SR Y H (a ++ b) (s1 ++ s2)
  | [], b, s1, s2, h, h' => by rw [ga_SR_n h]; exact h'
  | v :: a, b, s1, s2, h, h' => by
    obtain ⟨w, r, rfl, h1, h2⟩ := ga_SR_c h
    exact ⟨h1, ga_SR_join a b r s2 h2 h'⟩
theorem ga_SR_rev {Y : ga_Y} {H : Heap} : ∀ (a : List ga_V) (s : List Value), ga_SR Y H a s → ga_SR Y H a.reverse s.reverse
  | [], s, h => by rw [ga_SR_n h]; trivial
  | v :: a, s, h => by
    obtain ⟨w, r, rfl, h1, h2⟩ := ga_SR_c h
    rw [List.reverse_cons, List.reverse_cons]
    exact ga_SR_join _ _ _ _ (ga_SR_rev a r h2) ⟨h1, trivial⟩

/-! AM is sound, 2: what its values, frames and store stand for -/
/-- the words that a contract may carry, and those that go with the state -/
def ga_gd (w : Cond) : Bool := (w.onTables && w.keeps) || (match w with
  | .arrayClass _ => true
  | _ => false)
def ga_isN (w : Cond) : Bool := match w with
  | .fieldLinkNest .. => true
  | .methodLinkNest .. => true
  | _ => false
def ga_gw : List Cond := lw_tbl.filter ga_gd
def ga_nw : List Cond := lw_tbl.filter ga_isN
def ga_tb : List Cond := ga_gw ++ ga_nw
/-- where the objects are; the classes' numbers; the fields' slots -/
abbrev ga_E : Type := (Nat → Nat → Nat) × (Nat → ClassId) × (Nat → Nat → Nat)
/-- E; how many objects of a class; the tables; where a text stands; the classes; the class whose objects nobody writes -/
abbrev ga_Y : Type := ga_E × (Nat → Nat) × ga_G × (Heap → Nat → Int → Prop) × List vw_C × Nat
def ga_cv (E : ga_E) (v : ga_V) : Value := match v with
  | (0, x) => .int (Int32.ofInt x)
  | (1, x) => .long (Int64.ofInt x)
  | (2, _) => .null
  | (c + 3, n) => if n < 0 then .null else .ref (E.1 c n.toNat)
def ga_vk (Y : ga_Y) (v : ga_V) : Prop := match v with
  | (0, x) => ga_R32 x
  | (1, x) => ga_R64 x
  | (2, _) => False
  | (c + 3, n) => -1 ≤ n ∧ n < (Y.2.1 c : Int) ∧ (Y.2.2.1.1 c = true → n = 0)
def ga_vr (Y : ga_Y) (H : Heap) (v : ga_V) (w : Value) : Prop := (v.1 = 2 ∧ ∃ a, w = .ref a ∧ Y.2.2.2.1 H a v.2) ∨ (w = ga_cv Y.1 v ∧ ga_vk Y v)
def ga_SR (Y : ga_Y) (H : Heap) : List ga_V → List Value → Prop
  | [], [] => True
  | v :: st, w :: sv => ga_vr Y H v w ∧ ga_SR Y H st sv
  | _, _ => False
def ga_LR (Y : ga_Y) (H : Heap) (nL : Nat) (L : ga_L) (ls : Array Slot) : Prop := ls.size = nL ∧ lv_wf ls ∧ ∀ q ∈ L, ∃ w, ls[q.1]? = some (.val w) ∧ ga_vr Y H q.2 w
def ga_fv (q : Nat × Nat × Int) (n : Int) (σ : ga_S) : ga_V := if q.1 < 999 then (q.1, σ q.2.1 n 0) else if q.1 = 999 then (0, n) else (q.1 - 1000, ga_ad n q.2.2)
def ga_av (q : Nat × Int × Nat × Nat × Int × Int) (n i : Int) (σ : ga_S) : ga_V := if q.2.2.1 < 999 then (q.2.2.1, σ q.2.2.2.1 n i) else (q.2.2.1 - 1000, ga_ad (bif q.2.2.2.2.1 == 0 then i else q.2.2.2.2.1 * n + i) q.2.2.2.2.2)
/-- bytes -/
def ga_R8 (x : Int) : Prop := -128 ≤ x ∧ x < 128
theorem ga_R8_w8 (x : Int) : ga_R8 (w8 x) := by
  unfold ga_R8 w8
  omega
/-- an object; of one without fields only that it is an object -/
def ga_tO (o : Nat) (cC : ClassId) (N : Nat) (iS : Nat → Nat) (H : Heap) (V : Nat → Value) : Prop :=
  ∃ cell : Cell, H[o]? = some cell ∧ cell.cls = cC ∧ cell.vm.isStatics = false ∧ (0 < N → cell.vm = .none) ∧ ∀ k, k < N → cell.slots[iS k]? = some (V k)
theorem ga_tO.kept {o : Nat} {cC : ClassId} {N : Nat} {iS : Nat → Nat} {H H1 : Heap} {V : Nat → Value} (h : ga_tO o cC N iS H V) (h1 : H1[o]? = H[o]?) : ga_tO o cC N iS H1 V := by
  obtain ⟨cell, q, r⟩ := h
  exact ⟨cell, by rw [h1]; exact q, r⟩
theorem ga_tO.to {o : Nat} {cC : ClassId} {N : Nat} {iS : Nat → Nat} {H : Heap} {V V' : Nat → Value} (h : ga_tO o cC N iS H V) (hv : ∀ k, k < N → V k = V' k) : ga_tO o cC N iS H V' := by
  obtain ⟨cell, q, r1, r2, r3, r4⟩ := h
  exact ⟨cell, q, r1, r2, r3, fun k hk => by rw [← hv k hk]; exact r4 k hk⟩
theorem ga_tO.of {o : Nat} {cC : ClassId} {N : Nat} {iS : Nat → Nat} {H : Heap} {V : Nat → Value} (h : t_OB o cC N iS H V) : ga_tO o cC N iS H V := by
  obtain ⟨cell, q, r1, r2, r3⟩ := h
  exact ⟨cell, q, r1, by rw [r2]; rfl, fun _ => r2, r3⟩
theorem ga_tO.ob {o : Nat} {cC : ClassId} {N : Nat} {iS : Nat → Nat} {H : Heap} {V : Nat → Value} (h : ga_tO o cC N iS H V) (hN : 0 < N) : t_OB o cC N iS H V := by
  obtain ⟨cell, q, r1, r2, r3, r4⟩ := h
  exact ⟨cell, q, r1, r3 hN, r4⟩
/-- the heap holds the store -/
def ga_Hd (Y : ga_Y) (σ : ga_S) (H : Heap) : Prop := ∀ (c n : Nat), n < Y.2.1 c →
  (∀ q : vw_C, Y.2.2.2.2.1[c]? = some q → ga_tO (Y.1.1 c n) (Y.1.2.1 c) q.2.2 (Y.1.2.2 c) H (fun k => ga_cv Y.1 (ga_fv (Y.2.2.1.2.1 c k) n σ)) ∧ ∀ k : Nat, k < q.2.2 → ga_vk Y (ga_fv (Y.2.2.1.2.1 c k) n σ)) ∧
  (Y.2.2.2.2.1[c]? = none → H[Y.1.1 c n]? = some (arrV (Y.1.2.1 c) (Y.2.2.1.2.2 c).2.1.toNat (fun i => ga_cv Y.1 (ga_av (Y.2.2.1.2.2 c) n i σ))) ∧ ∀ i : Nat, (i : Int) < (Y.2.2.1.2.2 c).2.1 → ga_vk Y (ga_av (Y.2.2.1.2.2 c) n i σ)) ∧
  ((Y.2.2.1.2.2 c).1 = 1 → Y.2.2.2.2.1[c]? = none → ∀ i : Nat, (i : Int) < (Y.2.2.1.2.2 c).2.1 → ga_R8 (ga_av (Y.2.2.1.2.2 c) n i σ).2)
def ga_isO (Y : ga_Y) (q : Nat) : Prop := ∃ c n : Nat, c ≠ Y.2.2.2.2.2 ∧ n < Y.2.1 c ∧ q = Y.1.1 c n
def ga_Ar (Y : ga_Y) (sz : Nat) (q : Nat) : Prop := ga_isO Y q ∨ sz ≤ q
/-- how many Strings were made -/
def ga_al (σ : ga_S) : Nat := (σ 330 0 0).toNat
/-- what the tables must be -/
def ga_TB (Y : ga_Y) : Prop :=
  (∀ c n c' n' : Nat, n < Y.2.1 c → n' < Y.2.1 c' → Y.1.1 c n = Y.1.1 c' n' → c = c' ∧ n = n') ∧
  (∃ inv : Nat → Nat × Nat, (∀ (c : Nat) (q : vw_C) (k : Nat), Y.2.2.2.2.1[c]? = some q → k < q.2.2 → (Y.2.2.1.2.1 c k).1 < 999 → inv (Y.2.2.1.2.1 c k).2.1 = (c, k + 1) ∧ (Y.2.2.1.2.1 c k).2.1 ≠ 330) ∧
    (∀ c : Nat, Y.2.2.2.2.1[c]? = none → 0 < Y.2.1 c → (Y.2.2.1.2.2 c).2.2.1 < 999 → inv (Y.2.2.1.2.2 c).2.2.2.1 = (c, 0) ∧ (Y.2.2.1.2.2 c).2.2.2.1 ≠ 330)) ∧
  (∀ (c : Nat) (C : String) (T : u_T) (N : Nat), Y.2.2.2.2.1[c]? = some (C, T, N) → (∀ w ∈ u_ws C T N, w ∈ ga_tb) ∧ (∀ a, a < N → ∀ b, b < N → a ≠ b → (T a).2.1 ≠ (T b).2.1) ∧
    ∃ ty : Nat → FieldType, ∀ k, k < N → parseFieldDescriptor (T k).2.2.1 = some (ty k) ∧ (T k).1 = C ∧ ((Y.2.2.1.2.1 c k).1 < 999 → c ≠ Y.2.2.2.2.2 ∧ (T k).2.2.2 = false ∧
      (((Y.2.2.1.2.1 c k).1 = 0 ∧ (ty k = .int ∧ (Y.2.2.1.2.1 c k).2.2 ≠ 1 ∨ ty k = .boolean ∧ (Y.2.2.1.2.1 c k).2.2 = 1)) ∨ (3 ≤ (Y.2.2.1.2.1 c k).1 ∧ ∃ n, ty k = .object n)))) ∧
  (∀ c : Nat, Y.2.2.2.2.1[c]? = none → 0 < Y.2.1 c → 0 ≤ (Y.2.2.1.2.2 c).2.1 ∧ (Y.2.2.1.2.2 c).2.1 < 2147483648 ∧ c ≠ Y.2.2.2.2.2 ∧
    ((Y.2.2.1.2.2 c).1 < 3 → (Y.2.2.1.2.2 c).2.2.1 = 0) ∧ ((Y.2.2.1.2.2 c).1 = 3 → (Y.2.2.1.2.2 c).2.2.1 = 1) ∧ ((Y.2.2.1.2.2 c).1 = 4 → 3 ≤ (Y.2.2.1.2.2 c).2.2.1 ∧ ((Y.2.2.1.2.2 c).2.2.1 < 999 ∨ 1003 ≤ (Y.2.2.1.2.2 c).2.2.1))) ∧
  (∀ c : Nat, Y.2.2.2.2.1[c]? ≠ none → (Y.2.2.1.2.2 c).1 = 9) ∧
  (∀ c : Nat, (Y.2.2.1.2.2 c).1 < 5 → (Y.2.2.1.2.2 c).2.2.1 < 999 → (Y.2.2.1.2.2 c).2.2.2.1 ≠ 330)
/-- what holds of a state's classes -/
def ga_et (e : Nat) : FieldType := if e = 0 then .int else if e = 1 then .byte else if e = 2 then .boolean else .long
def ga_KN (Y : ga_Y) (s : State) : Prop := va_K (Y.1.2.1, Y.1.2.2) Y.2.2.2.2.1 [] s ∧
  ∀ c : Nat, Y.2.2.2.2.1[c]? = none → 0 < Y.2.1 c → ((Y.2.2.1.2.2 c).1 < 4 → ArrOfT s (Y.1.2.1 c) (ga_et (Y.2.2.1.2.2 c).1)) ∧
    ((Y.2.2.1.2.2 c).1 = 4 → (∃ ty : FieldType, ty.isReference = true ∧ ArrOfT s (Y.1.2.1 c) ty) ∧
      ((Y.2.2.1.2.2 c).2.2.1 < 999 → ∃ (q : vw_C), Y.2.2.2.2.1[(Y.2.2.1.2.2 c).2.2.1 - 3]? = some q ∧ ArrOfT s (Y.1.2.1 c) (.object q.1) ∧ va_RA s (Y.1.2.1 c) (.object q.1)))
theorem ga_KN.moved {Y : ga_Y} {u U : State} (hvm : u.vm.Alike U.vm) (h : ga_KN Y u) : ga_KN Y U := by
  refine ⟨va_K.moved hvm h.1, fun c h1 h2 => ?_⟩
  obtain ⟨a, b⟩ := h.2 c h1 h2
  refine ⟨fun h3 => arrOfT_moved hvm (a h3), fun h3 => ?_⟩
  obtain ⟨⟨ty, t1, t2⟩, d⟩ := b h3
  refine ⟨⟨ty, t1, arrOfT_moved hvm t2⟩, fun h4 => ?_⟩
  obtain ⟨q, q1, q2, q3⟩ := d h4
  exact ⟨q, q1, arrOfT_moved hvm q2, q3.moved hvm⟩
/-! values -/
theorem ga_vr_i {Y : ga_Y} {H : Heap} {x : Int} {w : Value} (h : ga_vr Y H (0, x) w) : w = .int (Int32.ofInt x) ∧ ga_R32 x := by
  rcases h with ⟨h, -⟩ | h
  · cases h
  · exact h
theorem ga_vr_l {Y : ga_Y} {H : Heap} {x : Int} {w : Value} (h : ga_vr Y H (1, x) w) : w = .long (Int64.ofInt x) ∧ ga_R64 x := by
  rcases h with ⟨h, -⟩ | h
  · cases h
  · exact h
theorem ga_vr_o {Y : ga_Y} {H : Heap} {c : Nat} {n : Int} {w : Value} (h : ga_vr Y H (c + 3, n) w) : w = (if n < 0 then .null else .ref (Y.1.1 c n.toNat)) ∧ -1 ≤ n ∧ n < (Y.2.1 c : Int) ∧ (Y.2.2.1.1 c = true → n = 0) := by
  rcases h with ⟨h, -⟩ | h
  · omega
  · exact h
theorem ga_vr_mi {Y : ga_Y} {H : Heap} {x : Int} (h : ga_R32 x) : ga_vr Y H (0, x) (.int (Int32.ofInt x)) := Or.inr ⟨rfl, h⟩
theorem ga_vr_ml {Y : ga_Y} {H : Heap} {x : Int} (h : ga_R64 x) : ga_vr Y H (1, x) (.long (Int64.ofInt x)) := Or.inr ⟨rfl, h⟩
theorem ga_vr_mk {Y : ga_Y} {H : Heap} {v : ga_V} (h : ga_vk Y v) : ga_vr Y H v (ga_cv Y.1 v) := Or.inr ⟨rfl, h⟩
theorem ga_vr_cat {Y : ga_Y} {H : Heap} {v : ga_V} {w : Value} (h : ga_vr Y H v w) : w.category = ga_cat v.1 := by
  obtain ⟨t, x⟩ := v
  rcases h with ⟨h, a, rfl, -⟩ | ⟨rfl, h⟩
  · cases h; rfl
  · match t, h with
    | 0, _ => rfl
    | 1, _ => rfl
    | c + 3, h =>
      have h1 : ga_cat (c + 3) = 1 := rfl
      rw [h1]
      unfold ga_cv
      dsimp only
      split <;> rfl
/-- what a call or a store leaves -/
def ga_keep (Y : ga_Y) (H H1 : Heap) : Prop := H.size ≤ H1.size ∧ ∀ q : Nat, q < H.size → ¬ ga_isO Y q → H1[q]? = H[q]?
/-- texts stay -/
def ga_SS (Y : ga_Y) : Prop := ∀ (H H1 : Heap) (a : Nat) (x : Int), ga_keep Y H H1 → Y.2.2.2.1 H a x → Y.2.2.2.1 H1 a x
theorem ga_vr_keep {Y : ga_Y} (hs : ga_SS Y) {H H1 : Heap} (hk : ga_keep Y H H1) {v : ga_V} {w : Value} (h : ga_vr Y H v w) : ga_vr Y H1 v w := by
  rcases h with ⟨h, a, rfl, h2⟩ | h
  · exact Or.inl ⟨h, a, rfl, hs H H1 a _ hk h2⟩
  · exact Or.inr h
theorem ga_SR_keep {Y : ga_Y} (hs : ga_SS Y) {H H1 : Heap} (hk : ga_keep Y H H1) : ∀ (st : List ga_V) (sv : List Value), ga_SR Y H st sv → ga_SR Y H1 st sv
  | [], [], _ => trivial
  | _ :: st, _ :: sv, h => ⟨ga_vr_keep hs hk h.1, ga_SR_keep hs hk st sv h.2⟩
  | [], _ :: _, h => h.elim
  | _ :: _, [], h => h.elim
theorem ga_LR_keep {Y : ga_Y} (hs : ga_SS Y) {H H1 : Heap} (hk : ga_keep Y H H1) {nL : Nat} {L : ga_L} {ls : Array Slot} (h : ga_LR Y H nL L ls) : ga_LR Y H1 nL L ls :=
  ⟨h.1, h.2.1, fun q hq => by obtain ⟨w, h1, h2⟩ := h.2.2 q hq; exact ⟨w, h1, ga_vr_keep hs hk h2⟩⟩
theorem ga_SR_c {Y : ga_Y} {H : Heap} {v : ga_V} {st : List ga_V} {sv : List Value} (h : ga_SR Y H (v :: st) sv) : ∃ (w : Value) (r : List Value), sv = w :: r ∧ ga_vr Y H v w ∧ ga_SR Y H st r := by
  cases sv with
  | nil => exact h.elim
  | cons w r => exact ⟨w, r, rfl, h.1, h.2⟩
theorem ga_SR_n {Y : ga_Y} {H : Heap} {sv : List Value} (h : ga_SR Y H [] sv) : sv = [] := by
  cases sv with
  | nil => rfl
  | cons w r => exact h.elim
theorem ga_SR_cats {Y : ga_Y} {H : Heap} : ∀ (st : List ga_V) (sv : List Value), ga_SR Y H st sv → (sv.map fun v => v.category).sum = ga_cats st
  | [], [], _ => rfl
  | v :: st, w :: sv, h => by
    simp only [List.map_cons, List.sum_cons, ga_cats]
    rw [ga_vr_cat h.1, ga_SR_cats st sv h.2]
  | [], _ :: _, h => h.elim
  | _ :: _, [], h => h.elim
/-! the store changes -/
theorem ga_fv_up (q : Nat × Nat × Int) (n' : Int) (σ : ga_S) (F : Nat) (n i v : Int) : ga_fv q n' (ga_up σ F n i v) = if q.1 < 999 ∧ q.2.1 = F ∧ n' = n ∧ (0 : Int) = i then (q.1, v) else ga_fv q n' σ := by
  unfold ga_fv ga_up
  by_cases h : q.1 < 999
  · simp only [h, if_true, true_and]
    split <;> rfl
  · simp only [h, if_false, false_and]
theorem ga_av_up (q : Nat × Int × Nat × Nat × Int × Int) (n' i' : Int) (σ : ga_S) (F : Nat) (n i v : Int) : ga_av q n' i' (ga_up σ F n i v) = if q.2.2.1 < 999 ∧ q.2.2.2.1 = F ∧ n' = n ∧ i' = i then (q.2.2.1, v) else ga_av q n' i' σ := by
  unfold ga_av ga_up
  by_cases h : q.2.2.1 < 999
  · simp only [h, if_true, true_and]
    split <;> rfl
  · simp only [h, if_false, false_and]
theorem ga_al_up {σ : ga_S} {F : Nat} {n i v : Int} (h : F ≠ 330) : ga_al (ga_up σ F n i v) = ga_al σ := by
  unfold ga_al ga_up
  rw [if_neg (fun q => h q.1.symm)]
theorem ga_Hd_fld {Y : ga_Y} (hT : ga_TB Y) {σ : ga_S} {H H1 : Heap} {c n k : Nat} {C : String} {T : u_T} {N : Nat} {v : Int} (hd : ga_Hd Y σ H) (hn : n < Y.2.1 c) (hc : Y.2.2.2.2.1[c]? = some (C, T, N)) (hk : k < N) (ht : (Y.2.2.1.2.1 c k).1 < 999)
    (hv : ga_vk Y ((Y.2.2.1.2.1 c k).1, v)) (ho : t_OB (Y.1.1 c n) (Y.1.2.1 c) N (Y.1.2.2 c) H1 (updV (fun k => ga_cv Y.1 (ga_fv (Y.2.2.1.2.1 c k) n σ)) k (ga_cv Y.1 ((Y.2.2.1.2.1 c k).1, v)))) (hq : ∀ q : Nat, q ≠ Y.1.1 c n → H1[q]? = H[q]?) :
    ga_Hd Y (ga_up σ (Y.2.2.1.2.1 c k).2.1 n 0 v) H1 := by
  obtain ⟨hin, ⟨inv, hi1, hi2⟩, -⟩ := hT
  have hik := (hi1 c _ k hc hk ht).1
  intro c' n' hn'
  refine ⟨fun q hq' => ?_, fun hq' => ?_, fun h8 hq' i hi => ?_⟩
  · obtain ⟨h1, h2⟩ := (hd c' n' hn').1 q hq'
    have key : ∀ k', k' < q.2.2 → ga_fv (Y.2.2.1.2.1 c' k') n' (ga_up σ (Y.2.2.1.2.1 c k).2.1 n 0 v) = if c' = c ∧ n' = n ∧ k' = k then ((Y.2.2.1.2.1 c k).1, v) else ga_fv (Y.2.2.1.2.1 c' k') n' σ := by
      intro k' hk'
      rw [ga_fv_up]
      by_cases hh : c' = c ∧ n' = n ∧ k' = k
      · obtain ⟨rfl, rfl, rfl⟩ := hh
        rw [if_pos ⟨ht, rfl, rfl, rfl⟩, if_pos ⟨rfl, rfl, rfl⟩]
      · rw [if_neg hh, if_neg]
        rintro ⟨z1, z2, z3, -⟩
        have := (hi1 c' q k' hq' hk' z1).1
        rw [z2, hik] at this
        have e1 : c = c' := congrArg Prod.fst this
        have e2 : k + 1 = k' + 1 := congrArg Prod.snd this
        exact hh ⟨e1.symm, by omega, by omega⟩
    refine ⟨?_, fun k' hk' => ?_⟩
    · by_cases hh : c' = c ∧ n' = n
      · obtain ⟨rfl, rfl⟩ := hh
        have hqe : q = (C, T, N) := Option.some.inj (hq'.symm.trans hc)
        subst hqe
        refine ga_tO.of (ho.to (fun k' hk' => ?_))
        rw [key k' hk']
        unfold updV
        by_cases e : k' = k
        · subst e; simp
        · simp [e]
      · have hne : Y.1.1 c' n' ≠ Y.1.1 c n := fun e => hh (hin c' n' c n hn' hn e)
        refine (h1.kept (hq _ hne)).to (fun k' hk' => ?_)
        rw [key k' hk', if_neg (fun z => hh ⟨z.1, z.2.1⟩)]
    · rw [key k' hk']
      split
      · exact hv
      · exact h2 k' hk'
  · obtain ⟨h1, h2⟩ := (hd c' n' hn').2.1 hq'
    have hne : Y.1.1 c' n' ≠ Y.1.1 c n := fun e => by
      have := (hin c' n' c n hn' hn e).1
      rw [this, hc] at hq'
      cases hq'
    have key : ∀ i : Int, ga_av (Y.2.2.1.2.2 c') n' i (ga_up σ (Y.2.2.1.2.1 c k).2.1 n 0 v) = ga_av (Y.2.2.1.2.2 c') n' i σ := by
      intro i
      rw [ga_av_up, if_neg]
      rintro ⟨z1, z2, -⟩
      have := (hi2 c' hq' (by omega) z1).1
      rw [z2, hik] at this
      have e2 : k + 1 = 0 := congrArg Prod.snd this
      omega
    refine ⟨?_, fun i hi => ?_⟩
    · rw [hq _ hne, h1]
      congr 2
      funext i
      rw [key]
    · rw [key]
      exact h2 i hi
  · rw [ga_av_up, if_neg]
    · exact (hd c' n' hn').2.2 h8 hq' i hi
    · rintro ⟨z1, z2, -⟩
      have := (hi2 c' hq' (by omega) z1).1
      rw [z2, hik] at this
      have e2 : k + 1 = 0 := congrArg Prod.snd this
      omega
theorem ga_Hd_arr {Y : ga_Y} (hT : ga_TB Y) {σ : ga_S} {H H1 : Heap} {c n i : Nat} {v : Int} (hd : ga_Hd Y σ H) (hn : n < Y.2.1 c) (hc : Y.2.2.2.2.1[c]? = none) (ht : (Y.2.2.1.2.2 c).2.2.1 < 999)
    (hv : ga_vk Y ((Y.2.2.1.2.2 c).2.2.1, v)) (h8v : (Y.2.2.1.2.2 c).1 = 1 → ga_R8 v) (ho : H1[Y.1.1 c n]? = some (arrV (Y.1.2.1 c) (Y.2.2.1.2.2 c).2.1.toNat (updV (fun i => ga_cv Y.1 (ga_av (Y.2.2.1.2.2 c) n i σ)) i (ga_cv Y.1 ((Y.2.2.1.2.2 c).2.2.1, v))))) (hq : ∀ q : Nat, q ≠ Y.1.1 c n → H1[q]? = H[q]?) :
    ga_Hd Y (ga_up σ (Y.2.2.1.2.2 c).2.2.2.1 n i v) H1 := by
  obtain ⟨hin, ⟨inv, hi1, hi2⟩, -⟩ := hT
  have hik := (hi2 c hc (by omega) ht).1
  intro c' n' hn'
  refine ⟨fun q hq' => ?_, fun hq' => ?_, fun e8 hq' j hj => ?_⟩
  · obtain ⟨h1, h2⟩ := (hd c' n' hn').1 q hq'
    have hne : Y.1.1 c' n' ≠ Y.1.1 c n := fun e => by
      have := (hin c' n' c n hn' hn e).1
      rw [this, hc] at hq'
      cases hq'
    have key : ∀ k', k' < q.2.2 → ga_fv (Y.2.2.1.2.1 c' k') n' (ga_up σ (Y.2.2.1.2.2 c).2.2.2.1 n i v) = ga_fv (Y.2.2.1.2.1 c' k') n' σ := by
      intro k' hk'
      rw [ga_fv_up, if_neg]
      rintro ⟨z1, z2, -⟩
      have := (hi1 c' q k' hq' hk' z1).1
      rw [z2, hik] at this
      have e2 : 0 = k' + 1 := congrArg Prod.snd this
      omega
    refine ⟨(h1.kept (hq _ hne)).to (fun k' hk' => by rw [key k' hk']), fun k' hk' => ?_⟩
    rw [key k' hk']
    exact h2 k' hk'
  · obtain ⟨h1, h2⟩ := (hd c' n' hn').2.1 hq'
    have key : ∀ j : Nat, ga_av (Y.2.2.1.2.2 c') n' j (ga_up σ (Y.2.2.1.2.2 c).2.2.2.1 n i v) = if c' = c ∧ n' = n ∧ j = i then ((Y.2.2.1.2.2 c).2.2.1, v) else ga_av (Y.2.2.1.2.2 c') n' j σ := by
      intro j
      rw [ga_av_up]
      by_cases hh : c' = c ∧ n' = n ∧ j = i
      · obtain ⟨rfl, rfl, rfl⟩ := hh
        rw [if_pos ⟨ht, rfl, rfl, rfl⟩, if_pos ⟨rfl, rfl, rfl⟩]
      · rw [if_neg hh, if_neg]
        rintro ⟨z1, z2, z3, z4⟩
        have := (hi2 c' hq' (by omega) z1).1
        rw [z2, hik] at this
        have e1 : c = c' := congrArg Prod.fst this
        exact hh ⟨e1.symm, by omega, by omega⟩
    refine ⟨?_, fun j hj => ?_⟩
    · by_cases hh : c' = c ∧ n' = n
      · obtain ⟨rfl, rfl⟩ := hh
        rw [ho]
        congr 2
        funext j
        rw [key j]
        unfold updV
        by_cases e : j = i
        · subst e; simp
        · simp [e]
      · have hne : Y.1.1 c' n' ≠ Y.1.1 c n := fun e => hh (hin c' n' c n hn' hn e)
        rw [hq _ hne, h1]
        congr 2
        funext j
        rw [key j, if_neg (fun z => hh ⟨z.1, z.2.1⟩)]
    · rw [key j]
      split
      · exact hv
      · exact h2 j hj
  · rw [ga_av_up]
    split
    · rename_i z
      obtain ⟨z1, z2, -⟩ := z
      have := (hi2 c' hq' (by omega) z1).1
      rw [z2, hik] at this
      have e1 : c = c' := congrArg Prod.fst this
      subst e1
      exact h8v e8
    · exact (hd c' n' hn').2.2 e8 hq' j hj

/-! AM: an abstract machine over integers. A value is (tag, number): tag 0 int, 1 long, 2 String, 3 + c a reference to an object of the class or array class c by its number (-1: null). -/
abbrev ga_V : Type := Nat × Int
/-- the store: field, object, place -/
abbrev ga_S : Type := Nat → Int → Int → Int
abbrev ga_L : Type := List (Nat × ga_V)
abbrev ga_R : Type := Int × ga_S
/-- an instruction: itself, the next place, and what its operands mean (a branch's target; class, field and its contents; method, number of arguments, tag of the answer) -/
abbrev ga_I : Type := Instr × Nat × Nat × Nat × Nat × Nat × Int
def ga_up (σ : ga_S) (F : Nat) (n i v : Int) : ga_S := fun F' n' i' => if F' = F ∧ n' = n ∧ i' = i then v else σ F' n' i'
def w32 (x : Int) : Int := (x + 2147483648) % 4294967296 - 2147483648
def w64 (x : Int) : Int := (x + 9223372036854775808) % 18446744073709551616 - 9223372036854775808
def w8 (x : Int) : Int := (x + 128) % 256 - 128
def ga_iand (a b : Int) : Int := (Int32.ofInt a &&& Int32.ofInt b).toInt
def ga_ior (a b : Int) : Int := (Int32.ofInt a ||| Int32.ofInt b).toInt
def ga_ixor (a b : Int) : Int := (Int32.ofInt a ^^^ Int32.ofInt b).toInt
def ga_ishl (a b : Int) : Int := (Int32.ofInt a <<< (Int32.ofInt b &&& 31)).toInt
def ga_ishr (a b : Int) : Int := (Int32.ofInt a >>> (Int32.ofInt b &&& 31)).toInt
def ga_land (a b : Int) : Int := (Int64.ofInt a &&& Int64.ofInt b).toInt
def ga_lor (a b : Int) : Int := (Int64.ofInt a ||| Int64.ofInt b).toInt
def ga_lshl (a b : Int) : Int := (Int64.ofInt a <<< ((Int32.ofInt b).toInt64 &&& 63)).toInt
def ga_lshr (a b : Int) : Int := (Int64.ofInt a >>> ((Int32.ofInt b).toInt64 &&& 63)).toInt
def ga_lushr (a b : Int) : Int := ((Int64.ofInt a).toUInt64 >>> ((Int32.ofInt b).toInt64.toUInt64 &&& Int64.toUInt64 63)).toInt64.toInt
def ga_lcmp (a b : Int) : Int := if a < b then -1 else if a = b then 0 else 1
def ga_ck {ρ : Type} (i n : Int) (k : Option ρ) : Option ρ := if 0 ≤ i ∧ i < n then k else none
def ga_nn {ρ : Type} (n : Int) (k : Option ρ) : Option ρ := if 0 ≤ n then k else none
def ga_nz {ρ : Type} (n : Int) (k : Option ρ) : Option ρ := if n = 0 then none else k
def ga_01 {ρ : Type} (n : Int) (k : Option ρ) : Option ρ := if n = 0 ∨ n = 1 then k else none
/-- the tables: one object alone of this class; a field of a class: (tag below 999, store field, 1 if boolean), (999, ..): the object's number, (1000 + tag, .., shift): a fixed reference; an array class: (element type 0 int 1 byte 2 boolean 3 long 4 reference, length, tag, store field, factor, shift) -/
abbrev ga_G : Type := (Nat → Bool) × (Nat → Nat → Nat × Nat × Int) × (Nat → Nat × Int × Nat × Nat × Int × Int)
def ga_ad (n y : Int) : Int := bif y == 0 then n else n + y
def ga_get {ρ : Type} (L : ga_L) (i : Nat) (k : Nat → Int → Option ρ) : Option ρ := match L with
  | [] => none
  | (j, t, v) :: r => bif Nat.beq j i then k t v else ga_get r i k
/-- a local is set; a long that it cuts is gone -/
def ga_set {ρ : Type} (L : ga_L) (i t : Nat) (v : Int) (k : ga_L → Option ρ) : Option ρ := match L with
  | [] => k [(i, t, v)]
  | (j, u, x) :: r => bif Nat.beq j i || (Nat.beq (j + 1) i && Nat.beq u 1) || (Nat.beq t 1 && Nat.beq j (i + 1)) then ga_set r i t v k else ga_set r i t v (fun r' => k ((j, u, x) :: r'))
def ga_mask (ks : List Nat) (L : ga_L) : ga_L := match ks with
  | [] => []
  | k :: r => match L.find? (fun q => Nat.beq q.1 k) with
    | some q => q :: ga_mask r L
    | none => ga_mask r L
def ga_spl {ρ : Type} (n : Nat) (st acc : List ga_V) (k : List ga_V → List ga_V → Option ρ) : Option ρ := match n, st with
  | 0, st => k acc st
  | n + 1, v :: st => ga_spl n st (v :: acc) k
  | _ + 1, [] => none
def ga_cat (t : Nat) : Nat := bif Nat.beq t 1 then 2 else 1
def ga_cats (st : List ga_V) : Nat := match st with
  | [] => 0
  | v :: r => ga_cat v.1 + ga_cats r
def ga_args {ρ : Type} (i : Nat) (vs : List ga_V) (k : ga_L → Option ρ) : Option ρ := match vs with
  | [] => k []
  | (t, v) :: r => ga_args (bif Nat.beq t 1 then i + 2 else i + 1) r (fun L => k ((i, t, v) :: L))
def ga_tg (pc : Nat) (off : Int) : Nat := ((pc : Int) + off).toNat
def ga_sw {ρ : Type} (x : Int) (cs : List (Int × Nat)) (d : Nat) (k : Nat → Option ρ) : Option ρ := match cs with
  | [] => k d
  | q :: r => if x = q.1 then k q.2 else ga_sw x r d k
def ga_tab (pc : Nat) (lo : Int) (offs : List Int) : List (Int × Nat) := match offs with
  | [] => []
  | o :: r => (lo, ga_tg pc o) :: ga_tab pc (lo + 1) r
def ga_lkp (pc : Nat) (ps : List (Int × Int)) : List (Int × Nat) := ps.map (fun q => (q.1, ga_tg pc q.2))
section
variable {ρ : Type} (G : ga_G) (call : Nat → List ga_V → ga_S → Option ga_R) (rk : Nat) (K : Nat → ga_L → List ga_V → ga_S → Option ρ) (Rt : ga_R → Option ρ)
def ga_load (t : Nat) (i nx : Nat) (L : ga_L) (st : List ga_V) (σ : ga_S) : Option ρ := ga_get L i (fun u v => bif Nat.beq t u || (Nat.beq t 2 && Nat.blt 1 u) then K nx L ((u, v) :: st) σ else none)
def ga_store (t : Nat) (i nx : Nat) (L : ga_L) (st : List ga_V) (σ : ga_S) : Option ρ := match st with
  | (u, v) :: r => bif Nat.beq t u || (Nat.beq t 2 && Nat.blt 1 u) then ga_set L i u v (fun L' => K nx L' r σ) else none
  | [] => none
def ga_bin (t u : Nat) (f : Int → Int → Int) (nx : Nat) (L : ga_L) (st : List ga_V) (σ : ga_S) : Option ρ := match st with
  | (t2, y) :: (t1, x) :: r => bif Nat.beq t1 t && Nat.beq t2 u then K nx L ((t, f x y) :: r) σ else none
  | _ => none
def ga_una (t u : Nat) (f : Int → Int) (nx : Nat) (L : ga_L) (st : List ga_V) (σ : ga_S) : Option ρ := match st with
  | (t1, x) :: r => bif Nat.beq t1 t then K nx L ((u, f x) :: r) σ else none
  | _ => none
def ga_br (c : Jvm.ClassFile.Cond) (x y : Int) (a b : Option ρ) : Option ρ := match c with
  | .eq => if x = y then a else b
  | .ne => if x = y then b else a
  | .lt => if x < y then a else b
  | .ge => if x < y then b else a
  | .gt => if y < x then a else b
  | .le => if y < x then b else a
/-- the object: of one alone its number is 0; else it mustn't be null -/
def ga_obj (c : Nat) (n : Int) (k : Int → Option ρ) : Option ρ := bif G.1 c then k 0 else ga_nn n (k n)
def ga_aload (e1 e2 : Nat) (nx : Nat) (L : ga_L) (st : List ga_V) (σ : ga_S) : Option ρ := match st with
  | (ti, i) :: (ta + 3, a) :: r => match G.2.2 ta with
    | (e, len, t, F, m, b) => bif Nat.beq ti 0 && (Nat.beq e e1 || Nat.beq e e2) then ga_obj G ta a (fun n => ga_ck i len
        (bif Nat.blt t 999 then K nx L ((t, σ F n i) :: r) σ else K nx L ((t - 1000, ga_ad (bif m == 0 then i else m * n + i) b) :: r) σ)) else none
  | _ => none
/-- what an array's place takes -/
def ga_put (e : Nat) (v : Int) (k : Int → Option ρ) : Option ρ := bif Nat.beq e 1 then k (w8 v) else bif Nat.beq e 2 then ga_01 v (k v) else k v
def ga_astore (e1 e2 : Nat) (nx : Nat) (L : ga_L) (st : List ga_V) (σ : ga_S) : Option ρ := match st with
  | (tv, v) :: (ti, i) :: (ta + 3, a) :: r => match G.2.2 ta with
    | (e, len, t, F, _, _) => bif Nat.beq ti 0 && (Nat.beq e e1 || Nat.beq e e2) && Nat.blt t 999 && Nat.beq tv t then ga_obj G ta a (fun n => ga_ck i len (ga_put e v (fun w => K nx L r (ga_up σ F n i w)))) else none
  | _ => none
def ga_recv (inst : Bool) (rc : Nat) (vs : List ga_V) (k : Option ρ) : Option ρ := bif inst then (match vs with
  | (2, _) :: _ => bif Nat.beq rc 999 then k else none
  | (c + 3, v) :: _ => bif Nat.beq c rc then (bif G.1 c then k else ga_nn v k) else none
  | _ => none) else k
def ga_invoke (inst : Bool) (j na rc : Nat) (rt : Int) (nx : Nat) (L : ga_L) (st : List ga_V) (σ : ga_S) : Option ρ :=
  ga_spl na st [] (fun vs rest => bif Nat.ble (ga_cats rest) 8 then
    ga_recv G inst rc vs ((call j vs σ).bind fun q => bif rt == -1 then K nx L rest q.2 else K nx L ((rt.toNat, q.1) :: rest) q.2)
  else none)
def ga_fget (c t F : Nat) (y : Int) (nx : Nat) (L : ga_L) (st : List ga_V) (σ : ga_S) : Option ρ := match st with
  | (ta, a) :: r => bif Nat.beq ta (3 + c) then ga_obj G c a (fun n =>
      bif Nat.blt t 999 then K nx L ((t, σ F n 0) :: r) σ else bif Nat.beq t 999 then K nx L ((0, n) :: r) σ else K nx L ((t - 1000, ga_ad n y) :: r) σ) else none
  | _ => none
def ga_fput (c t F : Nat) (y : Int) (nx : Nat) (L : ga_L) (st : List ga_V) (σ : ga_S) : Option ρ := match st with
  | (tv, v) :: (ta, a) :: r => bif Nat.beq ta (3 + c) && Nat.blt t 999 && Nat.beq tv t then ga_obj G c a (fun n =>
      bif y == 1 then ga_01 v (K nx L r (ga_up σ F n 0 v)) else K nx L r (ga_up σ F n 0 v)) else none
  | _ => none
def ga_step (i : Instr) (pc nx a b c e : Nat) (d : Int) (L : ga_L) (st : List ga_V) (σ : ga_S) : Option ρ := match i with
  | .iconst n => bif decide (-128 ≤ n) && decide (n < 128) then K nx L ((0, n) :: st) σ else none
  | .bipush n => bif decide (-128 ≤ n) && decide (n < 128) then K nx L ((0, n) :: st) σ else none
  | .sipush n => bif decide (-32768 ≤ n) && decide (n < 32768) then K nx L ((0, n) :: st) σ else none
  | .lconst n => bif Nat.beq n.val 0 then K nx L ((1, 0) :: st) σ else K nx L ((1, 1) :: st) σ
  | .ldc _ => K nx L ((a, d) :: st) σ
  | .ldc_w _ => K nx L ((a, d) :: st) σ
  | .ldc2_w _ => K nx L ((1, d) :: st) σ
  | .getstatic _ => K nx L ((a, d) :: st) σ
  | .iload k => ga_load K 0 k nx L st σ
  | .iload_n k => ga_load K 0 k.val nx L st σ
  | .lload k => ga_load K 1 k nx L st σ
  | .lload_n k => ga_load K 1 k.val nx L st σ
  | .aload k => ga_load K 2 k nx L st σ
  | .aload_n k => ga_load K 2 k.val nx L st σ
  | .istore k => ga_store K 0 k nx L st σ
  | .istore_n k => ga_store K 0 k.val nx L st σ
  | .lstore k => ga_store K 1 k nx L st σ
  | .lstore_n k => ga_store K 1 k.val nx L st σ
  | .astore k => ga_store K 2 k nx L st σ
  | .astore_n k => ga_store K 2 k.val nx L st σ
  | .iinc k n => ga_get L k (fun t v => bif Nat.beq t 0 then ga_set L k 0 (w32 (v + n)) (fun L' => K nx L' st σ) else none)
  | .iadd => ga_bin K 0 0 (fun a b => w32 (a + b)) nx L st σ
  | .isub => ga_bin K 0 0 (fun a b => w32 (a - b)) nx L st σ
  | .imul => ga_bin K 0 0 (fun a b => w32 (a * b)) nx L st σ
  | .iand => ga_bin K 0 0 ga_iand nx L st σ
  | .ior => ga_bin K 0 0 ga_ior nx L st σ
  | .ixor => ga_bin K 0 0 ga_ixor nx L st σ
  | .ishl => ga_bin K 0 0 ga_ishl nx L st σ
  | .ishr => ga_bin K 0 0 ga_ishr nx L st σ
  | .ladd => ga_bin K 1 1 (fun a b => w64 (a + b)) nx L st σ
  | .lsub => ga_bin K 1 1 (fun a b => w64 (a - b)) nx L st σ
  | .lmul => ga_bin K 1 1 (fun a b => w64 (a * b)) nx L st σ
  | .land => ga_bin K 1 1 ga_land nx L st σ
  | .lor => ga_bin K 1 1 ga_lor nx L st σ
  | .lshl => ga_bin K 1 0 ga_lshl nx L st σ
  | .lshr => ga_bin K 1 0 ga_lshr nx L st σ
  | .lushr => ga_bin K 1 0 ga_lushr nx L st σ
  | .idiv => match st with
    | (t2, y) :: (t1, x) :: r => bif Nat.beq t1 0 && Nat.beq t2 0 then ga_nz y (K nx L ((0, w32 (Int.tdiv x y)) :: r) σ) else none
    | _ => none
  | .irem => match st with
    | (t2, y) :: (t1, x) :: r => bif Nat.beq t1 0 && Nat.beq t2 0 then ga_nz y (K nx L ((0, w32 (Int.tmod x y)) :: r) σ) else none
    | _ => none
  | .lcmp => match st with
    | (t2, y) :: (t1, x) :: r => bif Nat.beq t1 1 && Nat.beq t2 1 then K nx L ((0, ga_lcmp x y) :: r) σ else none
    | _ => none
  | .ineg => ga_una K 0 0 (fun a => w32 (-a)) nx L st σ
  | .i2l => ga_una K 0 1 (fun a => a) nx L st σ
  | .l2i => ga_una K 1 0 w32 nx L st σ
  | .i2b => ga_una K 0 0 w8 nx L st σ
  | .dup => match st with
    | (t, x) :: r => bif Nat.beq t 1 then none else K nx L ((t, x) :: (t, x) :: r) σ
    | _ => none
  | .dup_x1 => match st with
    | (t, x) :: (u, y) :: r => bif Nat.beq t 1 || Nat.beq u 1 then none else K nx L ((t, x) :: (u, y) :: (t, x) :: r) σ
    | _ => none
  | .dup2 => match st with
    | (t, x) :: (u, y) :: r => bif Nat.beq t 1 || Nat.beq u 1 then none else K nx L ((t, x) :: (u, y) :: (t, x) :: (u, y) :: r) σ
    | _ => none
  | .pop => match st with
    | (t, _) :: r => bif Nat.beq t 1 then none else K nx L r σ
    | _ => none
  | .ifCond q _ => match st with
    | (t, x) :: r => bif Nat.beq t 0 then ga_br q x 0 (K a L r σ) (K nx L r σ) else none
    | _ => none
  | .if_icmp q _ => match st with
    | (t2, y) :: (t1, x) :: r => bif Nat.beq t1 0 && Nat.beq t2 0 then ga_br q x y (K a L r σ) (K nx L r σ) else none
    | _ => none
  | .if_acmp q _ => match st with
    | (t2, y) :: (t1, x) :: r => bif Nat.blt 2 t1 && Nat.beq t1 t2 then (match q with
      | .eq => if x = y then K a L r σ else K nx L r σ
      | .ne => if x = y then K nx L r σ else K a L r σ) else none
    | _ => none
  | .goto _ => K a L st σ
  | .tableswitch q lo _ offs => match st with
    | (t, x) :: r => bif Nat.beq t 0 then ga_sw x (ga_tab pc lo offs.toList) (ga_tg pc q) (fun t => K t L r σ) else none
    | _ => none
  | .lookupswitch q ps => match st with
    | (t, x) :: r => bif Nat.beq t 0 then ga_sw x (ga_lkp pc ps.toList) (ga_tg pc q) (fun t => K t L r σ) else none
    | _ => none
  | .getfield _ => ga_fget G K a c e d nx L st σ
  | .putfield _ => ga_fput G K a c e d nx L st σ
  | .arraylength => match st with
    | (ta + 3, n) :: r => match G.2.2 ta with
      | (q, len, _, _, _, _) => bif Nat.blt q 5 then ga_obj G ta n (fun _ => K nx L ((0, len) :: r) σ) else none
    | _ => none
  | .iaload => ga_aload G K 0 0 nx L st σ
  | .baload => ga_aload G K 1 2 nx L st σ
  | .laload => ga_aload G K 3 3 nx L st σ
  | .aaload => ga_aload G K 4 4 nx L st σ
  | .iastore => ga_astore G K 0 0 nx L st σ
  | .bastore => ga_astore G K 1 2 nx L st σ
  | .lastore => ga_astore G K 3 3 nx L st σ
  | .aastore => ga_astore G K 4 4 nx L st σ
  | .invokestatic _ => ga_invoke G call K false a b c d nx L st σ
  | .invokevirtual _ => ga_invoke G call K true a b c d nx L st σ
  | .ireturn => match st with
    | [(t, x)] => bif Nat.beq t 0 then (bif Nat.beq rk 0 then Rt (x, σ) else bif Nat.beq rk 2 then ga_01 x (Rt (x, σ)) else none) else none
    | _ => none
  | .lreturn => match st with
    | [(t, x)] => bif Nat.beq t 1 && Nat.beq rk 1 then Rt (x, σ) else none
    | _ => none
  | .areturn => match st with
    | [(t, x)] => bif Nat.blt 1 t && Nat.beq rk (t + 3) then Rt (x, σ) else none
    | _ => none
  | .return_ => match st with
    | [] => bif Nat.beq rk 4 then Rt (0, σ) else none
    | _ => none
  | _ => none
end
/-! the machine's runs: the limit of finite ones -/
section
variable {α β : Type}
def ga_it (nx : α → Option (α ⊕ β)) : Nat → α → Option β
  | 0, _ => none
  | n + 1, a => match nx a with
    | none => none
    | some (.inl a') => ga_it nx n a'
    | some (.inr b) => some b
theorem ga_it_mono (nx : α → Option (α ⊕ β)) : ∀ (n m : Nat) (a : α) (b : β), n ≤ m → ga_it nx n a = some b → ga_it nx m a = some b := by
  intro n
  induction n with
  | zero => intro m a b _ h; simp [ga_it] at h
  | succ n ih =>
    intro m a b hm h
    obtain ⟨m, rfl⟩ : ∃ m', m = m' + 1 := ⟨m - 1, by omega⟩
    simp only [ga_it] at h ⊢
    split at h
    · cases h
    · exact ih m _ b (by omega) h
    · exact h
noncomputable def ga_lp (nx : α → Option (α ⊕ β)) (a : α) : Option β := by
  classical exact if h : ∃ b n, ga_it nx n a = some b then some (Classical.choose h) else none
theorem ga_lp_iff (nx : α → Option (α ⊕ β)) (a : α) (b : β) : ga_lp nx a = some b ↔ ∃ n, ga_it nx n a = some b := by
  classical
  unfold ga_lp
  constructor
  · intro h
    split at h
    · rename_i hx
      cases h
      exact Classical.choose_spec hx
    · cases h
  · intro h
    have hx : ∃ b n, ga_it nx n a = some b := ⟨b, h⟩
    rw [dif_pos hx]
    obtain ⟨n, hn⟩ := Classical.choose_spec hx
    obtain ⟨m, hm⟩ := h
    have h1 := ga_it_mono nx n (n + m) a _ (by omega) hn
    have h2 := ga_it_mono nx m (n + m) a _ (by omega) hm
    rw [h1] at h2
    exact h2
theorem ga_lp_eq (nx : α → Option (α ⊕ β)) (a : α) : ga_lp nx a = (nx a).bind (fun o => match o with
    | .inl a' => ga_lp nx a'
    | .inr b => some b) := by
  apply Option.ext
  intro b
  rw [ga_lp_iff]
  constructor
  · intro ⟨n, hn⟩
    cases n with
    | zero => simp [ga_it] at hn
    | succ n =>
      simp only [ga_it] at hn
      split at hn
      · cases hn
      · rename_i a' e
        simp only [e, Option.bind_some]
        exact (ga_lp_iff nx a' b).mpr ⟨n, hn⟩
      · rename_i b' e
        simp only [e, Option.bind_some]
        exact hn
  · intro h
    cases e : nx a with
    | none => rw [e] at h; cases h
    | some o =>
      rw [e] at h
      cases o with
      | inl a' =>
        obtain ⟨n, hn⟩ := (ga_lp_iff nx a' b).mp h
        exact ⟨n + 1, by simp only [ga_it, e]; exact hn⟩
      | inr b' => exact ⟨1, by simp only [ga_it, e]; exact h⟩
end
/-! a step is natural in what comes behind it -/
section
variable {ρ ρ' : Type} (G : ga_G) (call : Nat → List ga_V → ga_S → Option ga_R) (rk : Nat) (K : Nat → ga_L → List ga_V → ga_S → Option ρ) (Rt : ga_R → Option ρ) (g : ρ → Option ρ')
theorem ga_ck_b (i n : Int) (k : Option ρ) : (ga_ck i n k).bind g = ga_ck i n (k.bind g) := by unfold ga_ck; split <;> rfl
theorem ga_nn_b (n : Int) (k : Option ρ) : (ga_nn n k).bind g = ga_nn n (k.bind g) := by unfold ga_nn; split <;> rfl
theorem ga_nz_b (n : Int) (k : Option ρ) : (ga_nz n k).bind g = ga_nz n (k.bind g) := by unfold ga_nz; split <;> rfl
theorem ga_01_b (n : Int) (k : Option ρ) : (ga_01 n k).bind g = ga_01 n (k.bind g) := by unfold ga_01; split <;> rfl
theorem ga_cond_b (c : Bool) (a b : Option ρ) : (bif c then a else b).bind g = bif c then a.bind g else b.bind g := by cases c <;> rfl
theorem ga_ite_b (c : Prop) (h : Decidable c) (a b : Option ρ) : (if c then a else b).bind g = if c then a.bind g else b.bind g := by split <;> rfl
theorem ga_get_b (L : ga_L) (i : Nat) (k : Nat → Int → Option ρ) : (ga_get L i k).bind g = ga_get L i (fun t v => (k t v).bind g) := by
  induction L with
  | nil => rfl
  | cons q r ih => obtain ⟨j, t, v⟩ := q; simp only [ga_get, ga_cond_b, ih]
theorem ga_set_b (i t : Nat) (v : Int) (L : ga_L) : ∀ (k : ga_L → Option ρ), (ga_set L i t v k).bind g = ga_set L i t v (fun L => (k L).bind g) := by
  induction L with
  | nil => intro k; rfl
  | cons q r ih => intro k; obtain ⟨j, u, x⟩ := q; simp only [ga_set, ga_cond_b, ih]
theorem ga_spl_b (n : Nat) : ∀ (st acc : List ga_V) (k : List ga_V → List ga_V → Option ρ), (ga_spl n st acc k).bind g = ga_spl n st acc (fun a b => (k a b).bind g) := by
  induction n with
  | zero => intro st acc k; simp only [ga_spl]
  | succ n ih => intro st acc k; cases st <;> simp only [ga_spl, ih, Option.bind_none]
theorem ga_args_b (vs : List ga_V) : ∀ (i : Nat) (k : ga_L → Option ρ), (ga_args i vs k).bind g = ga_args i vs (fun L => (k L).bind g) := by
  induction vs with
  | nil => intro i k; rfl
  | cons q r ih => intro i k; obtain ⟨t, v⟩ := q; simp only [ga_args, ih]
theorem ga_load_b (t i nx : Nat) (L : ga_L) (st : List ga_V) (σ : ga_S) : (ga_load K t i nx L st σ).bind g = ga_load (fun a b c d => (K a b c d).bind g) t i nx L st σ := by
  unfold ga_load; simp only [ga_get_b, ga_cond_b, Option.bind_none]
theorem ga_store_b (t i nx : Nat) (L : ga_L) (st : List ga_V) (σ : ga_S) : (ga_store K t i nx L st σ).bind g = ga_store (fun a b c d => (K a b c d).bind g) t i nx L st σ := by
  unfold ga_store; split <;> simp only [ga_cond_b, ga_set_b, Option.bind_none]
theorem ga_bin_b (t u : Nat) (f : Int → Int → Int) (nx : Nat) (L : ga_L) (st : List ga_V) (σ : ga_S) : (ga_bin K t u f nx L st σ).bind g = ga_bin (fun a b c d => (K a b c d).bind g) t u f nx L st σ := by
  unfold ga_bin; split <;> simp only [ga_cond_b, Option.bind_none]
theorem ga_una_b (t u : Nat) (f : Int → Int) (nx : Nat) (L : ga_L) (st : List ga_V) (σ : ga_S) : (ga_una K t u f nx L st σ).bind g = ga_una (fun a b c d => (K a b c d).bind g) t u f nx L st σ := by
  unfold ga_una; split <;> simp only [ga_cond_b, Option.bind_none]
theorem ga_br_b (c : Jvm.ClassFile.Cond) (x y : Int) (a b : Option ρ) : (ga_br c x y a b).bind g = ga_br c x y (a.bind g) (b.bind g) := by
  unfold ga_br; split <;> simp only [ga_ite_b]
theorem ga_obj_b (n : Int) (c : Nat) (k : Int → Option ρ) : (ga_obj G c n k).bind g = ga_obj G c n (fun n => (k n).bind g) := by
  unfold ga_obj; simp only [ga_cond_b, ga_nn_b]
theorem ga_put_b (e : Nat) (v : Int) (k : Int → Option ρ) : (ga_put e v k).bind g = ga_put e v (fun n => (k n).bind g) := by
  unfold ga_put; simp only [ga_cond_b, ga_01_b]
theorem ga_aload_b (e1 e2 nx : Nat) (L : ga_L) (st : List ga_V) (σ : ga_S) : (ga_aload G K e1 e2 nx L st σ).bind g = ga_aload G (fun a b c d => (K a b c d).bind g) e1 e2 nx L st σ := by
  unfold ga_aload; split <;> simp only [ga_cond_b, ga_obj_b, ga_ck_b, Option.bind_none]
theorem ga_astore_b (e1 e2 nx : Nat) (L : ga_L) (st : List ga_V) (σ : ga_S) : (ga_astore G K e1 e2 nx L st σ).bind g = ga_astore G (fun a b c d => (K a b c d).bind g) e1 e2 nx L st σ := by
  unfold ga_astore; split <;> simp only [ga_cond_b, ga_obj_b, ga_ck_b, ga_put_b, Option.bind_none]
theorem ga_recv_b (inst : Bool) (rc : Nat) (vs : List ga_V) (k : Option ρ) : (ga_recv G inst rc vs k).bind g = ga_recv G inst rc vs (k.bind g) := by
  unfold ga_recv; cases inst <;> simp only [cond_true, cond_false]; split <;> simp only [ga_cond_b, ga_nn_b, Option.bind_none]
theorem ga_invoke_b (inst : Bool) (j na rc : Nat) (rt : Int) (nx : Nat) (L : ga_L) (st : List ga_V) (σ : ga_S) : (ga_invoke G call K inst j na rc rt nx L st σ).bind g = ga_invoke G call (fun a b c d => (K a b c d).bind g) inst j na rc rt nx L st σ := by
  unfold ga_invoke; simp only [ga_spl_b, ga_cond_b, ga_recv_b, Option.bind_none, Option.bind_assoc]
theorem ga_fget_b (c t F : Nat) (y : Int) (nx : Nat) (L : ga_L) (st : List ga_V) (σ : ga_S) : (ga_fget G K c t F y nx L st σ).bind g = ga_fget G (fun a b c d => (K a b c d).bind g) c t F y nx L st σ := by
  unfold ga_fget; split <;> simp only [ga_cond_b, ga_obj_b, Option.bind_none]
theorem ga_fput_b (c t F : Nat) (y : Int) (nx : Nat) (L : ga_L) (st : List ga_V) (σ : ga_S) : (ga_fput G K c t F y nx L st σ).bind g = ga_fput G (fun a b c d => (K a b c d).bind g) c t F y nx L st σ := by
  unfold ga_fput; split <;> simp only [ga_cond_b, ga_obj_b, ga_01_b, Option.bind_none]
theorem ga_sw_b (x : Int) (cs : List (Int × Nat)) (d : Nat) (k : Nat → Option ρ) : (ga_sw x cs d k).bind g = ga_sw x cs d (fun t => (k t).bind g) := by
  induction cs with
  | nil => rfl
  | cons q r ih => simp only [ga_sw, ga_ite_b, ih]
theorem ga_step_b (i : Instr) (pc nx a b c e : Nat) (d : Int) (L : ga_L) (st : List ga_V) (σ : ga_S) : (ga_step G call rk K Rt i pc nx a b c e d L st σ).bind g = ga_step G call rk (fun a b c d => (K a b c d).bind g) (fun r => (Rt r).bind g) i pc nx a b c e d L st σ := by
  cases i
  all_goals first
    | rfl
    | (simp only [ga_step, ga_cond_b, ga_get_b, ga_set_b, ga_load_b, ga_store_b, ga_bin_b, ga_una_b, ga_aload_b, ga_astore_b, ga_invoke_b, ga_fget_b, ga_fput_b, Option.bind_none]; done)
    | (simp only [ga_step]; split <;> simp only [ga_cond_b, ga_br_b, ga_sw_b, ga_obj_b, ga_nz_b, ga_01_b, ga_ite_b, Option.bind_none]; done)
    | (simp only [ga_step]; split <;> simp only [ga_cond_b, Option.bind_none]; split <;> simp only [ga_ite_b]; done)
end
/-! a method: its code, where it is looked at (with the locals that are kept there), what it gives back, how many locals it has -/
abbrev ga_M : Type := (Nat → ga_I) × (Nat → Option (List Nat)) × Nat × Nat
/-- no instruction of ours -/
def ga_nop : ga_I := (.nop, 0, 0, 0, 0, 0, 0)
def gn_b (pc k : Nat) (a b : ga_I) : ga_I := bif Nat.blt pc k then a else b
def gn_l (pc k : Nat) (a : ga_I) : ga_I := bif Nat.beq pc k then a else ga_nop
abbrev ga_A : Type := Nat × ga_L × List ga_V × ga_S
def ga_km (M : ga_M) (pc : Nat) (L : ga_L) : ga_L := match M.2.1 pc with
  | some ks => ga_mask ks L
  | none => L
def ga_one {ρ : Type} (G : ga_G) (call : Nat → List ga_V → ga_S → Option ga_R) (M : ga_M) (K : Nat → ga_L → List ga_V → ga_S → Option ρ) (Rt : ga_R → Option ρ) (pc : Nat) (L : ga_L) (st : List ga_V) (σ : ga_S) : Option ρ := match M.1 pc with
  | (i, nx, a, b, c, e, d) => ga_step G call M.2.2.1 K Rt i pc nx a b c e d L st σ
def ga_nx (G : ga_G) (call : Nat → List ga_V → ga_S → Option ga_R) (M : ga_M) (s : ga_A) : Option (ga_A ⊕ ga_R) :=
  ga_one G call M (fun pc L st σ => some (.inl (pc, ga_km M pc L, st, σ))) (fun r => some (.inr r)) s.1 s.2.1 s.2.2.1 s.2.2.2
noncomputable def ga_go (G : ga_G) (call : Nat → List ga_V → ga_S → Option ga_R) (M : ga_M) (pc : Nat) (L : ga_L) (st : List ga_V) (σ : ga_S) : Option ga_R := ga_lp (ga_nx G call M) (pc, L, st, σ)
theorem ga_go_eq (G : ga_G) (call : Nat → List ga_V → ga_S → Option ga_R) (M : ga_M) (pc : Nat) (L : ga_L) (st : List ga_V) (σ : ga_S) :
    ga_go G call M pc L st σ = ga_one G call M (fun pc L st σ => ga_go G call M pc (ga_km M pc L) st σ) (fun r => some r) pc L st σ := by
  unfold ga_go
  rw [ga_lp_eq]
  unfold ga_nx ga_one
  rw [ga_step_b]
  rfl
/-- a run up to the next places that are looked at -/
def ga_blk (G : ga_G) (call : Nat → List ga_V → ga_S → Option ga_R) (M : ga_M) (F : Nat → ga_L → List ga_V → ga_S → Option ga_R) : Nat → Nat → ga_L → List ga_V → ga_S → Option ga_R
  | 0, pc, L, st, σ => F pc L st σ
  | k + 1, pc, L, st, σ => ga_one G call M (fun pc L st σ => match M.2.1 pc with
    | some ks => F pc (ga_mask ks L) st σ
    | none => ga_blk G call M F k pc L st σ) (fun r => some r) pc L st σ
theorem ga_blk_eq (G : ga_G) (call : Nat → List ga_V → ga_S → Option ga_R) (M : ga_M) : ∀ (k : Nat) (pc : Nat) (L : ga_L) (st : List ga_V) (σ : ga_S), ga_go G call M pc L st σ = ga_blk G call M (ga_go G call M) k pc L st σ := by
  intro k
  induction k with
  | zero => intro pc L st σ; rfl
  | succ k ih =>
    intro pc L st σ
    rw [ga_go_eq, ga_blk]
    congr 1
    funext pc L st σ
    unfold ga_km
    split
    · rfl
    · exact ih pc L st σ
/-! all methods: a table; what isn't in it is a member of the library -/
section
variable (G : ga_G) (tab : Nat → ga_M) (prim : Nat → List ga_V → ga_S → Option ga_R)
noncomputable def ga_run : Nat → Nat → List ga_V → ga_S → Option ga_R
  | 0, _, _, _ => none
  | d + 1, j, vs, σ => bif Nat.blt j 377 then bif Nat.ble (ga_cats vs) (tab j).2.2.2 then ga_args 0 vs (fun L => ga_go G (ga_run d) (tab j) 0 (ga_km (tab j) 0 L) [] σ) else none else prim j vs σ
end

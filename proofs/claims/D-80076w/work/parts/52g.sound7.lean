/-! AM is sound, 7: the tables are looked through by program -/
def ga_dec (cc : ByteArray) (pc : Nat) (i : Instr) (n : Nat) : Bool := match decode cc pc with
  | .ok (i', n') => decide (i' = i) && Nat.beq n' n
  | .error _ => false
def ga_decA (cc : ByteArray) (pc : Nat) (i : Instr) : Bool := match decode cc pc with
  | .ok (i', _) => decide (i' = i)
  | .error _ => false
theorem ga_dec_ok {cc : ByteArray} {pc : Nat} {i : Instr} {n : Nat} (h : ga_dec cc pc i n = true) : decode cc pc = .ok (i, n) := by
  unfold ga_dec at h
  split at h
  · rename_i i' n' e
    obtain ⟨h1, h2⟩ := Bool.and_eq_true_iff.mp h
    rw [e, of_decide_eq_true h1, ga_beq h2]
  · cases h
theorem ga_decA_ok {cc : ByteArray} {pc : Nat} {i : Instr} (h : ga_decA cc pc i = true) : ∃ n, decode cc pc = .ok (i, n) := by
  unfold ga_decA at h
  split at h
  · rename_i i' n' e
    exact ⟨n', by rw [e, of_decide_eq_true h]⟩
  · cases h
section
variable (FL : Nat → Nat → Nat → Bool) (ML : Nat → Bool → Nat → Nat → Nat → Int → Bool) (GS LC : Nat → Nat → Int → Bool) (G : ga_G) (nL : Nat) (cc : ByteArray)
def ga_ckX (i : Instr) (pc a b c e : Nat) (d : Int) : Bool := match i with
  | .ifCond _ off => decide ((pc : Int) + off = (a : Int))
  | .if_icmp _ off => decide ((pc : Int) + off = (a : Int))
  | .if_acmp _ off => decide ((pc : Int) + off = (a : Int))
  | .goto off => decide ((pc : Int) + off = (a : Int))
  | .getfield idx => decide (G.2.1 a b = (c, e, d)) && FL idx a b
  | .putfield idx => decide (G.2.1 a b = (c, e, d)) && FL idx a b
  | .getstatic idx => GS idx a d
  | .ldc idx => LC idx a d && !(Nat.beq a 1)
  | .ldc_w idx => LC idx a d && !(Nat.beq a 1)
  | .ldc2_w idx => LC idx 1 d
  | .istore k => Nat.blt k nL
  | .astore k => Nat.blt k nL
  | .lstore k => Nat.blt (k + 1) nL
  | .istore_n k => Nat.blt k.val nL
  | .astore_n k => Nat.blt k.val nL
  | .lstore_n k => Nat.blt (k.val + 1) nL
  | .iinc k _ => Nat.blt k nL
  | .invokestatic idx => ML idx false a b c d
  | .invokevirtual idx => ML idx true a b c d
  | _ => true
def ga_ckI (pc : Nat) (q : ga_I) : Bool := match q with
  | (i, nx, a, b, c, e, d) => match i with
    | .nop => true
    | .tableswitch z lo hi offs => ga_decA cc pc (.tableswitch z lo hi offs) && decide (hi = lo + offs.size - 1) && decide (0 ≤ (pc : Int) + z) && offs.toList.all (fun o => decide (0 ≤ (pc : Int) + o))
    | .lookupswitch z ps => ga_decA cc pc (.lookupswitch z ps) && (ps.toList.zip (ps.toList.drop 1)).all (fun (a, next) => a.1 < next.1) && decide (0 ≤ (pc : Int) + z) && ps.toList.all (fun o => decide (0 ≤ (pc : Int) + o.2))
    | i => ga_dec cc pc i (ga_len i) && Nat.beq nx (pc + ga_len i) && ga_ckX FL ML GS LC G nL i pc a b c e d
end
theorem ga_ckI_ok {Y : ga_Y} {FL : Nat → Nat → Nat → Bool} {ML : Nat → Bool → Nat → Nat → Nat → Int → Bool} {GS LC : Nat → Nat → Int → Bool} {nL : Nat} {own : String} {cc : ByteArray} {ml : Nat → Bool → Nat → Nat → Nat → Int → Prop} {gs lc : Nat → Nat → Int → Prop}
    (hFL : ∀ idx a b, FL idx a b = true → ∃ (C : String) (T : u_T) (N : Nat), Y.2.2.2.2.1[a]? = some (C, T, N) ∧ b < N ∧ (Cond.fieldLink own idx C (T b).2.1 (T b).2.2.1 ∈ ga_tb ∨ ∃ host, Cond.fieldLinkNest own idx C (T b).2.1 (T b).2.2.1 host ∈ ga_tb)) (hML : ∀ idx inst j na rc rt, ML idx inst j na rc rt = true → ml idx inst j na rc rt) (hGS : ∀ idx a d, GS idx a d = true → gs idx a d) (hLC : ∀ idx a d, LC idx a d = true → lc idx a d)
    {pc nx a b c e : Nat} {i : Instr} {d : Int} (h : ga_ckI FL ML GS LC Y.2.2.1 nL cc pc (i, nx, a, b, c, e, d) = true) : i = .nop ∨ ga_crt Y nL own ml gs lc cc i pc nx a b c e d := by
  cases i
  case nop => exact Or.inl rfl
  case tableswitch z lo hi offs =>
    obtain ⟨h1, h4⟩ := Bool.and_eq_true_iff.mp (show (ga_decA cc pc (.tableswitch z lo hi offs) && decide (hi = lo + offs.size - 1) && decide (0 ≤ (pc : Int) + z) && offs.toList.all (fun o => decide (0 ≤ (pc : Int) + o))) = true from h)
    obtain ⟨h1, h3⟩ := Bool.and_eq_true_iff.mp h1
    obtain ⟨h1, h2⟩ := Bool.and_eq_true_iff.mp h1
    exact Or.inr ⟨ga_decA_ok h1, of_decide_eq_true h2, of_decide_eq_true h3, fun o ho => of_decide_eq_true (List.all_eq_true.mp h4 o ho)⟩
  case lookupswitch z ps =>
    obtain ⟨h1, h4⟩ := Bool.and_eq_true_iff.mp (show (ga_decA cc pc (.lookupswitch z ps) && (ps.toList.zip (ps.toList.drop 1)).all (fun (a, next) => a.1 < next.1) && decide (0 ≤ (pc : Int) + z) && ps.toList.all (fun o => decide (0 ≤ (pc : Int) + o.2))) = true from h)
    obtain ⟨h1, h3⟩ := Bool.and_eq_true_iff.mp h1
    obtain ⟨h1, h2⟩ := Bool.and_eq_true_iff.mp h1
    exact Or.inr ⟨ga_decA_ok h1, h2, of_decide_eq_true h3, fun o ho => of_decide_eq_true (List.all_eq_true.mp h4 o ho)⟩
  all_goals
    obtain ⟨h1, h3⟩ := Bool.and_eq_true_iff.mp h
    obtain ⟨h1, h2⟩ := Bool.and_eq_true_iff.mp h1
    refine Or.inr ⟨ga_dec_ok h1, ga_beq h2, ?_⟩
    first
      | exact trivial
      | exact of_decide_eq_true h3
      | exact ga_blt h3
      | exact hGS _ _ _ h3
      | exact hLC _ _ _ h3
      | exact hML _ _ _ _ _ _ h3
      | (obtain ⟨g1, g2⟩ := Bool.and_eq_true_iff.mp h3; exact ⟨of_decide_eq_true g1, hFL _ _ _ g2⟩)
      | (obtain ⟨g1, g2⟩ := Bool.and_eq_true_iff.mp h3; exact ⟨hLC _ _ _ g1, fun e => by rw [e] at g2; cases g2⟩)
/-- a method's whole code -/
def ga_ckM (FL : Nat → Nat → Nat → Bool) (ML : Nat → Bool → Nat → Nat → Nat → Int → Bool) (GS LC : Nat → Nat → Int → Bool) (G : ga_G) (nL : Nat) (cc : ByteArray) (cd : Nat → ga_I) (n : Nat) : Bool := (List.range n).all (fun pc => ga_ckI FL ML GS LC G nL cc pc (cd pc))
theorem gn_b_ge {pc k : Nat} {a b : ga_I} (h : k ≤ pc) : gn_b pc k a b = b := by
  unfold gn_b
  cases e : Nat.blt pc k with
  | false => rfl
  | true => have := ga_blt e; omega
theorem ga_ckM_ok {Y : ga_Y} {FL : Nat → Nat → Nat → Bool} {ML : Nat → Bool → Nat → Nat → Nat → Int → Bool} {GS LC : Nat → Nat → Int → Bool} {nL : Nat} {own : String} {cc : ByteArray} {ml : Nat → Bool → Nat → Nat → Nat → Int → Prop} {gs lc : Nat → Nat → Int → Prop}
    (hFL : ∀ idx a b, FL idx a b = true → ∃ (C : String) (T : u_T) (N : Nat), Y.2.2.2.2.1[a]? = some (C, T, N) ∧ b < N ∧ (Cond.fieldLink own idx C (T b).2.1 (T b).2.2.1 ∈ ga_tb ∨ ∃ host, Cond.fieldLinkNest own idx C (T b).2.1 (T b).2.2.1 host ∈ ga_tb)) (hML : ∀ idx inst j na rc rt, ML idx inst j na rc rt = true → ml idx inst j na rc rt) (hGS : ∀ idx a d, GS idx a d = true → gs idx a d) (hLC : ∀ idx a d, LC idx a d = true → lc idx a d)
    {cd : Nat → ga_I} {n : Nat} (hn : ∀ pc, n ≤ pc → cd pc = ga_nop) (h : ga_ckM FL ML GS LC Y.2.2.1 nL cc cd n = true) : ∀ pc i nx a b c e d, cd pc = (i, nx, a, b, c, e, d) → i = .nop ∨ ga_crt Y nL own ml gs lc cc i pc nx a b c e d := by
  intro pc i nx a b c e d hq
  by_cases hp : pc < n
  · have := List.all_eq_true.mp h pc (List.mem_range.mpr hp)
    rw [hq] at this
    exact ga_ckI_ok hFL hML hGS hLC this
  · rw [hn pc (by omega)] at hq
    left
    have := congrArg Prod.fst hq
    exact this.symm

/-! AM is sound, 1: numbers -/
theorem ga_w32 (x : Int) : w32 x = x.bmod (2 ^ 32) := by
  unfold w32
  rw [Int.bmod_def]
  split <;> omega
theorem ga_w64 (x : Int) : w64 x = x.bmod (2 ^ 64) := by
  unfold w64
  rw [Int.bmod_def]
  split <;> omega
theorem ga_w32_r (x : Int) : -2147483648 ≤ w32 x ∧ w32 x < 2147483648 := by unfold w32; omega
theorem ga_w64_r (x : Int) : -9223372036854775808 ≤ w64 x ∧ w64 x < 9223372036854775808 := by unfold w64; omega
theorem ga_w32_id {x : Int} (h1 : -2147483648 ≤ x) (h2 : x < 2147483648) : w32 x = x := by unfold w32; omega
theorem ga_w64_id {x : Int} (h1 : -9223372036854775808 ≤ x) (h2 : x < 9223372036854775808) : w64 x = x := by unfold w64; omega
theorem ga_i32 (x : Int) : (Int32.ofInt x).toInt = w32 x := by rw [ga_w32]; exact Int32.toInt_ofInt
theorem ga_i64 (x : Int) : (Int64.ofInt x).toInt = w64 x := by rw [ga_w64]; exact Int64.toInt_ofInt
theorem ga_of32 (v : Int32) : Int32.ofInt v.toInt = v := Int32.ofInt_toInt v
theorem ga_of64 (v : Int64) : Int64.ofInt v.toInt = v := Int64.ofInt_toInt v
theorem ga_r32 (v : Int32) : -2147483648 ≤ v.toInt ∧ v.toInt < 2147483648 := by
  have := ga_w32_r v.toInt
  rw [← ga_i32, ga_of32] at this
  exact this
theorem ga_r64 (v : Int64) : -9223372036854775808 ≤ v.toInt ∧ v.toInt < 9223372036854775808 := by
  have := ga_w64_r v.toInt
  rw [← ga_i64, ga_of64] at this
  exact this
theorem ga_ofw32 (x : Int) : Int32.ofInt (w32 x) = Int32.ofInt x := by
  rw [← ga_i32, ga_of32]
theorem ga_ofw64 (x : Int) : Int64.ofInt (w64 x) = Int64.ofInt x := by
  rw [← ga_i64, ga_of64]
def ga_R32 (x : Int) : Prop := -2147483648 ≤ x ∧ x < 2147483648
def ga_R64 (x : Int) : Prop := -9223372036854775808 ≤ x ∧ x < 9223372036854775808
theorem ga_ti {x : Int} (h : ga_R32 x) : (Int32.ofInt x).toInt = x := by rw [ga_i32]; exact ga_w32_id h.1 h.2
theorem ga_tl {x : Int} (h : ga_R64 x) : (Int64.ofInt x).toInt = x := by rw [ga_i64]; exact ga_w64_id h.1 h.2
theorem ga_eqi {x y : Int} (hx : ga_R32 x) (hy : ga_R32 y) : Int32.ofInt x = Int32.ofInt y ↔ x = y :=
  ⟨fun h => by rw [← ga_ti hx, ← ga_ti hy, h], fun h => by rw [h]⟩
theorem ga_lti {x y : Int} (hx : ga_R32 x) (hy : ga_R32 y) : Int32.ofInt x < Int32.ofInt y ↔ x < y := by
  rw [Int32.lt_iff_toInt_lt, ga_ti hx, ga_ti hy]
theorem ga_lei {x y : Int} (hx : ga_R32 x) (hy : ga_R32 y) : Int32.ofInt x ≤ Int32.ofInt y ↔ x ≤ y := by
  rw [Int32.le_iff_toInt_le, ga_ti hx, ga_ti hy]
theorem ga_eql {x y : Int} (hx : ga_R64 x) (hy : ga_R64 y) : Int64.ofInt x = Int64.ofInt y ↔ x = y :=
  ⟨fun h => by rw [← ga_tl hx, ← ga_tl hy, h], fun h => by rw [h]⟩
theorem ga_ltl {x y : Int} (hx : ga_R64 x) (hy : ga_R64 y) : Int64.ofInt x < Int64.ofInt y ↔ x < y := by
  rw [Int64.lt_iff_toInt_lt, ga_tl hx, ga_tl hy]
theorem ga_add32 (x y : Int) : Int32.ofInt x + Int32.ofInt y = Int32.ofInt (w32 (x + y)) := by rw [ga_ofw32, Int32.ofInt_add]
theorem ga_sub32 (x y : Int) : Int32.ofInt x - Int32.ofInt y = Int32.ofInt (w32 (x - y)) := by rw [ga_ofw32, Int32.ofInt_sub]
theorem ga_mul32 (x y : Int) : Int32.ofInt x * Int32.ofInt y = Int32.ofInt (w32 (x * y)) := by rw [ga_ofw32, Int32.ofInt_mul]
theorem ga_neg32 (x : Int) : -Int32.ofInt x = Int32.ofInt (w32 (-x)) := by rw [ga_ofw32, Int32.ofInt_neg]
theorem ga_add64 (x y : Int) : Int64.ofInt x + Int64.ofInt y = Int64.ofInt (w64 (x + y)) := by rw [ga_ofw64, Int64.ofInt_add]
theorem ga_sub64 (x y : Int) : Int64.ofInt x - Int64.ofInt y = Int64.ofInt (w64 (x - y)) := by rw [ga_ofw64, Int64.ofInt_sub]
theorem ga_mul64 (x y : Int) : Int64.ofInt x * Int64.ofInt y = Int64.ofInt (w64 (x * y)) := by rw [ga_ofw64, Int64.ofInt_mul]
theorem ga_div32 {x y : Int} (hx : ga_R32 x) (hy : ga_R32 y) : Int32.ofInt x / Int32.ofInt y = Int32.ofInt (w32 (Int.tdiv x y)) := by
  rw [ga_ofw32]
  apply Int32.toInt_inj.mp
  rw [Int32.toInt_div, ga_ti hx, ga_ti hy, ← ga_w32, ga_i32]
theorem ga_rem32 {x y : Int} (hx : ga_R32 x) (hy : ga_R32 y) : Int32.ofInt x - Int32.ofInt x / Int32.ofInt y * Int32.ofInt y = Int32.ofInt (w32 (Int.tmod x y)) := by
  rw [ga_div32 hx hy, ga_mul32, ga_sub32, ga_ofw32, ga_ofw32, Int32.ofInt_sub, ga_ofw32, Int32.ofInt_mul, ga_ofw32, ← Int32.ofInt_mul, ← Int32.ofInt_sub]
  congr 1
  rw [Int.tmod_def, Int.mul_comm]
theorem ga_i2b (x : Int) : (Int32.ofInt x).toInt8.toInt32 = Int32.ofInt (w8 x) := by
  apply Int32.toInt_inj.mp
  rw [ga_i32, Int8.toInt_toInt32, Int32.toInt_toInt8, ga_i32]
  unfold w32 w8
  rw [Int.bmod_def]
  split <;> omega
theorem ga_i2l {x : Int} (h : ga_R32 x) : (Int32.ofInt x).toInt64 = Int64.ofInt x := by
  apply Int64.toInt_inj.mp
  rw [Int32.toInt_toInt64, ga_ti h, ga_tl ⟨by have := h.1; omega, by have := h.2; omega⟩]
theorem ga_l2i (x : Int) : (Int64.ofInt x).toInt32 = Int32.ofInt (w32 x) := by
  apply Int32.toInt_inj.mp
  rw [Int64.toInt_toInt32, ga_i64, ga_i32, ← ga_w32]
  unfold w64 w32
  omega
theorem ga_bip {n : Int} (h1 : -128 ≤ n) (h2 : n < 128) : (Int8.ofInt n).toInt32 = Int32.ofInt n := by
  apply Int32.toInt_inj.mp
  rw [Int8.toInt_toInt32, ga_i32, Int8.toInt_ofInt, Int.bmod_def, show Int8.size = 256 from rfl]
  unfold w32
  split <;> omega
theorem ga_sip {n : Int} (h1 : -32768 ≤ n) (h2 : n < 32768) : (Int16.ofInt n).toInt32 = Int32.ofInt n := by
  apply Int32.toInt_inj.mp
  rw [Int16.toInt_toInt32, ga_i32, Int16.toInt_ofInt, Int.bmod_def, show Int16.size = 65536 from rfl]
  unfold w32
  split <;> omega
theorem ga_cmpl {x y : Int} (hx : ga_R64 x) (hy : ga_R64 y) : lg_cmp (Int64.ofInt x) (Int64.ofInt y) = Int32.ofInt (ga_lcmp x y) := by
  unfold lg_cmp ga_lcmp
  rcases Int.lt_trichotomy x y with h | h | h
  · rw [if_neg (fun q => by have := (ga_ltl hy hx).mp q; omega), if_neg (fun q => by have := (ga_eql hx hy).mp q; omega), if_pos h]; rfl
  · subst h
    rw [if_neg (fun q => by have := (ga_ltl hy hx).mp q; omega), if_pos rfl, if_neg (by omega), if_pos rfl]; rfl
  · rw [if_pos ((ga_ltl hy hx).mpr h), if_neg (by omega), if_neg (by omega)]; rfl
theorem ga_in_iff {i : Int} {n : Nat} (hi : ga_R32 i) : vp_in (Int32.ofInt i) n ↔ 0 ≤ i ∧ i < n := by
  rw [vp_in_iff, ga_ti hi]
theorem ga_clamp {i : Int} (hi : ga_R32 i) (h : 0 ≤ i) : (Int32.ofInt i).toNatClampNeg = i.toNat := by
  unfold Int32.toNatClampNeg
  rw [ga_ti hi]

/-! words as numbers; the keys -/
theorem lor5 {w x : Int} (hw : 0 ≤ w) (hw2 : w < 144115188075855872) (hx : 0 ≤ x) (hx2 : x < 32) : ga_lor (ga_lshl w 5) x = 32 * w + x := by
  obtain ⟨a, rfl⟩ := Int.eq_ofNat_of_zero_le hw
  obtain ⟨b, rfl⟩ := Int.eq_ofNat_of_zero_le hx
  have ha : a < 144115188075855872 := by omega
  have hb : b < 32 := by omega
  unfold ga_lor ga_lshl
  rw [Int64.ofInt_toInt, show ((Int32.ofInt 5).toInt64 &&& 63) = (5 : Int64) by decide]
  show (Int64.ofInt (a : Int) <<< (5 : Int64) ||| Int64.ofInt (b : Int)).toBitVec.toInt = _
  rw [Int64.toBitVec_or, Int64.toBitVec_shiftLeft, Int64.toBitVec_ofInt, Int64.toBitVec_ofInt, show ((5 : Int64).toBitVec.smod 64) = 5#64 by decide]
  have e : (BitVec.ofInt 64 (a : Int) <<< 5#64 ||| BitVec.ofInt 64 (b : Int)).toNat = 32 * a + b := by
    rw [BitVec.toNat_or]
    show (BitVec.ofInt 64 (a : Int) <<< (5#64).toNat).toNat ||| _ = _
    rw [BitVec.toNat_shiftLeft, BitVec.toNat_ofInt, BitVec.toNat_ofInt]
    have e1 : ((a : Int) % ((2 ^ 64 : Nat) : Int)).toNat = a := by omega
    have e2 : ((b : Int) % ((2 ^ 64 : Nat) : Int)).toNat = b := by omega
    rw [e1, e2, show (5#64).toNat = 5 from rfl]
    have e3 : a <<< 5 = 32 * a := by rw [Nat.shiftLeft_eq]; omega
    rw [Nat.mod_eq_of_lt (by rw [e3]; omega), ← Nat.shiftLeft_add_eq_or_of_lt (by omega) a, e3]
  rw [BitVec.toInt_eq_toNat_of_lt (by rw [e]; omega), e]
  omega
theorem ipow_le {b : Int} (hb : 1 ≤ b) {m n : Nat} (h : m ≤ n) : b ^ m ≤ b ^ n := by
  obtain ⟨k, rfl⟩ := Nat.exists_eq_add_of_le h
  clear h
  induction k with
  | zero => exact Int.le_refl _
  | succ k ih =>
    have p : 0 < b ^ (m + k) := Int.pow_pos (by omega)
    have q := Int.mul_le_mul_of_nonneg_left hb (Int.le_of_lt p)
    rw [Int.mul_one] at q
    rw [← Nat.add_assoc, Int.pow_succ]
    omega
/-- a word's letters as one number -/
def packF (w : Int) (l : List Int) : Int := match l with
  | [] => w
  | c :: r => packF (32 * w + (c - 96)) r
def pack (l : List Int) : Int := packF 0 l
def isW (l : List Int) : Prop := ∀ c, c ∈ l → 97 ≤ c ∧ c ≤ 122
theorem packF_app (l r : List Int) : ∀ w, packF w (l ++ r) = packF (packF w l) r := by
  induction l with
  | nil => intro w; rfl
  | cons c l ih => intro w; exact ih _
theorem packF_r : ∀ (l : List Int) (w : Int) (m : Nat), isW l → 0 ≤ w → w < 32 ^ m → 0 ≤ packF w l ∧ packF w l < 32 ^ (m + l.length) ∧ w * 32 ^ l.length ≤ packF w l := by
  intro l
  induction l with
  | nil => intro w m _ h0 h1; exact ⟨h0, by show w < 32 ^ (m + 0); simpa using h1, by simp [packF]⟩
  | cons c l ih =>
    intro w m hl h0 h1
    have hc := hl c (List.mem_cons_self ..)
    have i := ih (32 * w + (c - 96)) (m + 1) (fun x hx => hl x (List.mem_cons_of_mem _ hx)) (by omega) (by rw [Int.pow_succ]; omega)
    refine ⟨i.1, ?_, ?_⟩
    · have e : m + (c :: l).length = m + 1 + l.length := by rw [List.length_cons]; omega
      rw [e]; exact i.2.1
    · refine Int.le_trans ?_ i.2.2
      rw [List.length_cons, Int.pow_succ, ← Int.mul_assoc, Int.mul_right_comm]
      have h32 : (0 : Int) ≤ 32 ^ l.length := Int.le_of_lt (Int.pow_pos (by decide))
      exact Int.mul_le_mul_of_nonneg_right (by omega) h32
theorem packF_inj : ∀ (l l' : List Int) (w w' : Int), isW l → isW l' → l.length = l'.length → packF w l = packF w' l' → w = w' ∧ l = l' := by
  intro l
  induction l with
  | nil =>
    intro l' w w' _ _ hl h
    cases l' with
    | nil => exact ⟨h, rfl⟩
    | cons _ _ => simp at hl
  | cons c l ih =>
    intro l' w w' h1 h2 hl h
    cases l' with
    | nil => simp at hl
    | cons c' l' =>
      have a := h1 c (List.mem_cons_self ..)
      have b := h2 c' (List.mem_cons_self ..)
      have i := ih l' _ _ (fun x hx => h1 x (List.mem_cons_of_mem _ hx)) (fun x hx => h2 x (List.mem_cons_of_mem _ hx)) (by simpa using hl) h
      have e : w = w' ∧ c = c' := by omega
      exact ⟨e.1, by rw [e.2, i.2]⟩
theorem pack_lt {l : List Int} (h : isW l) : 0 ≤ pack l ∧ pack l < 32 ^ l.length := by
  have r := packF_r l 0 0 h (by omega) (by decide)
  rw [Nat.zero_add] at r
  exact ⟨r.1, r.2.1⟩
theorem pack_ge {l : List Int} (h : isW l) (hl : l ≠ []) : 32 ^ (l.length - 1) ≤ pack l := by
  cases l with
  | nil => exact absurd rfl hl
  | cons c l =>
    have hc := h c (List.mem_cons_self ..)
    have r := packF_r l (32 * 0 + (c - 96)) 1 (fun x hx => h x (List.mem_cons_of_mem _ hx)) (by omega) (by omega)
    show (32 : Int) ^ (l.length + 1 - 1) ≤ packF (32 * 0 + (c - 96)) l
    rw [Nat.add_sub_cancel]
    have h32 : (0 : Int) ≤ 32 ^ l.length := Int.le_of_lt (Int.pow_pos (by decide))
    refine Int.le_trans ?_ r.2.2
    have := Int.mul_le_mul_of_nonneg_right (show (1 : Int) ≤ 32 * 0 + (c - 96) by omega) h32
    rw [Int.one_mul] at this
    exact this
theorem pack_len {l l' : List Int} (h : isW l) (h' : isW l') (e : pack l = pack l') : l.length ≤ l'.length := by
  by_cases c : l = []
  · rw [c]; exact Nat.zero_le _
  · have a := pack_ge h c
    have b := (pack_lt h').2
    rw [e] at a
    have lt : (32 : Int) ^ (l.length - 1) < 32 ^ l'.length := Int.lt_of_le_of_lt a b
    by_cases d : l'.length ≤ l.length - 1
    · have : (32 : Int) ^ l'.length ≤ 32 ^ (l.length - 1) := ipow_le (by decide) d
      omega
    · have : 0 < l.length := List.length_pos_iff.mpr c
      omega
theorem pack_inj {l l' : List Int} (h : isW l) (h' : isW l') (e : pack l = pack l') : l = l' :=
  (packF_inj l l' 0 0 h h' (Nat.le_antisymm (pack_len h h' e) (pack_len h' h e.symm)) e).2
theorem pack_z {l : List Int} (h : isW l) : pack l = 0 ↔ l = [] := by
  constructor
  · intro e
    by_cases c : l = []
    · exact c
    · have a := pack_ge h c
      have b : (0 : Int) < 32 ^ (l.length - 1) := Int.pow_pos (by decide)
      omega
  · intro e; rw [e]; rfl
theorem pack_12 {l : List Int} (h : isW l) (hl : l.length ≤ 12) : pack l < 1152921504606846976 := by
  have a := (pack_lt h).2
  have : (32 : Int) ^ l.length ≤ 32 ^ 12 := ipow_le (by decide) hl
  omega
theorem pack_11 {l : List Int} (h : isW l) (hl : l.length ≤ 11) : pack l < 36028797018963968 := by
  have a := (pack_lt h).2
  have : (32 : Int) ^ l.length ≤ 32 ^ 11 := ipow_le (by decide) hl
  omega
/-- the letters of a word, small -/
def wdB (B : Int → Int) (p n : Int) : List Int := (rg 0 n).map (fun i => lowB (B (p + i)))
theorem rg_len {n : Int} : ∀ i, ((rg i n).length : Int) = if i ≤ n then n - i else 0 := by
  refine rg_ind (n := n) ?_ ?_
  · intro i h
    rw [rg_n h]
    by_cases c : i ≤ n
    · rw [if_pos c]; simp; omega
    · rw [if_neg c]; rfl
  · intro i h ih
    rw [rg_s h, List.length_cons, if_pos (by omega)]
    rw [if_pos (by omega)] at ih
    omega
theorem wdB_len {B : Int → Int} {p n : Int} (h : 0 ≤ n) : ((wdB B p n).length : Int) = n := by
  unfold wdB
  rw [List.length_map, rg_len, if_pos h]; omega
theorem wdB_W {B : Int → Int} {p n : Int} (h : ∀ q, p ≤ q → q < p + n → isLt (B q) = true) : isW (wdB B p n) := by
  intro c hc
  obtain ⟨i, hi, rfl⟩ := List.mem_map.mp hc
  have a := (rg_mem 0).mp hi
  have b := h (p + i) (by omega) (by omega)
  exact of_decide_eq_true b
def KW : List (List Int) := [[97], [97, 110], [116, 104, 101], [115, 111, 109, 101], [105, 115], [97, 114, 101], [110, 111, 116], [111, 102], [105, 110], [111, 110], [98, 121], [116, 111], [104, 97, 115], [99, 97, 110], [98, 101], [111, 114], [97, 110, 100], [99, 97, 108, 108, 101, 100], [107, 105, 110, 100], [112, 108, 117, 114, 97, 108], [118, 97, 108, 117, 101], [114, 101, 108, 97, 116, 101, 115], [111, 110, 101], [118, 97, 114, 105, 111, 117, 115], [109, 101, 97, 110, 115], [118, 101, 114, 98], [114, 101, 108, 97, 116, 105, 111, 110], [97, 99, 116, 105, 111, 110], [97, 112, 112, 108, 121, 105, 110, 103], [112, 97, 114, 116], [99, 97, 114, 114, 105, 101, 100], [119, 111, 114, 110], [117, 115, 117, 97, 108, 108, 121], [117, 110, 100, 101, 114, 115, 116, 97, 110, 100], [97, 115], [100, 101, 102, 105, 110, 105, 116, 105, 111, 110], [105, 102], [119, 104, 101, 110], [98, 101, 102, 111, 114, 101], [105, 110, 115, 116, 101, 97, 100], [97, 102, 116, 101, 114], [101, 118, 101, 114, 121], [116, 117, 114, 110], [115, 97, 121], [110, 111, 119], [109, 111, 118, 101], [105, 110, 99, 114, 101, 97, 115, 101], [100, 101, 99, 114, 101, 97, 115, 101], [115, 116, 111, 112], [116, 114, 121], [116, 104, 97, 110], [108, 101, 115, 115], [109, 111, 114, 101], [110, 111, 117, 110], [105, 116]]
theorem KW_len : KW.length = 55 := by decide
theorem KW_W : ∀ w, w ∈ KW → isW w := by
  have h : KW.all (fun w => w.all (fun c => decide (97 ≤ c ∧ c ≤ 122))) = true := by decide +kernel
  intro w hw c hc
  have a := List.all_eq_true.mp h w hw
  have b := List.all_eq_true.mp a c hc
  exact of_decide_eq_true b
/-- the number of a word among the keys, from one on; 55 if it is none -/
def kI : List (List Int) → List Int → Int
  | [], _ => 0
  | k :: r, w => if k = w then 0 else 1 + kI r w
/-- what sort of token a word is -/
def wKey (w : List Int) : Int := if kI KW w < 55 then 9 + kI KW w else 0
theorem kI_r : ∀ (l : List (List Int)) (w : List Int), 0 ≤ kI l w ∧ kI l w ≤ l.length := by
  intro l w
  induction l with
  | nil => exact ⟨Int.le_refl _, by simp [kI]⟩
  | cons k r ih =>
    unfold kI
    rw [List.length_cons]
    split <;> omega

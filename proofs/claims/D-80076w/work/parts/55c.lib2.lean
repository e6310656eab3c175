/-! members of the library: charAt, indexOf -/
def y_pck : jm_N := (⟨"jdk/internal/util/Preconditions", "checkIndex", "(IILjava/util/function/BiFunction;)I"⟩, prog_21_method_11_code, 3, some .int)
def y_sck : jm_N := (⟨"java/lang/String", "checkIndex", "(II)V"⟩, prog_16_method_155_code, 2, none)
def y_lcharAt : jm_N := (⟨"java/lang/StringLatin1", "charAt", "([BI)C"⟩, prog_17_method_2_code, 2, some .char)
def y_charAt : jm_N := (⟨"java/lang/String", "charAt", "(I)C"⟩, prog_16_method_56_code, 2, some .char)
def y_can : jm_N := (⟨"java/lang/StringLatin1", "canEncode", "(I)Z"⟩, prog_17_method_4_code, 1, some .boolean)
def y_ixc : jm_N := (⟨"java/lang/StringLatin1", "indexOfChar", "([BIII)I"⟩, prog_17_method_23_code, 6, some .int)
def y_lix : jm_N := (⟨"java/lang/StringLatin1", "indexOf", "([BIII)I"⟩, prog_17_method_22_code, 4, some .int)
def y_indexOf : jm_N := (⟨"java/lang/String", "indexOf", "(II)I"⟩, prog_16_method_80_code, 3, some .int)
theorem dd_pck : (parseMethodDescriptor y_pck.1.desc).map (fun d => d.parameters.length) = some 3 := by decide +kernel
theorem g_pck : jm_good y_pck := ⟨by decide +kernel, jw_2_3, jw_1_8, by decide +kernel, by decide +kernel⟩
theorem dd_sck : (parseMethodDescriptor y_sck.1.desc).map (fun d => d.parameters.length) = some 2 := by decide +kernel
theorem g_sck : jm_good y_sck := ⟨by decide +kernel, jw_1_238, jw_1_6, by decide +kernel, by decide +kernel⟩
theorem dd_lcharAt : (parseMethodDescriptor y_lcharAt.1.desc).map (fun d => d.parameters.length) = some 2 := by decide +kernel
theorem g_lcharAt : jm_good y_lcharAt := ⟨by decide +kernel, jw_1_235, jw_1_7, by decide +kernel, by decide +kernel⟩
theorem dd_charAt : (parseMethodDescriptor y_charAt.1.desc).map (fun d => d.parameters.length) = some 1 := by decide +kernel
theorem g_charAt : jm_good y_charAt := ⟨by decide +kernel, jw_1_228, jw_1_6, by decide +kernel, by decide +kernel⟩
theorem dd_can : (parseMethodDescriptor y_can.1.desc).map (fun d => d.parameters.length) = some 1 := by decide +kernel
theorem g_can : jm_good y_can := ⟨by decide +kernel, jw_2_76, jw_1_7, by decide +kernel, by decide +kernel⟩
theorem dd_ixc : (parseMethodDescriptor y_ixc.1.desc).map (fun d => d.parameters.length) = some 4 := by decide +kernel
theorem g_ixc : jm_good y_ixc := ⟨by decide +kernel, jw_2_85, jw_1_7, by decide +kernel, by decide +kernel⟩
theorem dd_lix : (parseMethodDescriptor y_lix.1.desc).map (fun d => d.parameters.length) = some 4 := by decide +kernel
theorem g_lix : jm_good y_lix := ⟨by decide +kernel, jw_2_73, jw_1_7, by decide +kernel, by decide +kernel⟩
theorem dd_indexOf : (parseMethodDescriptor y_indexOf.1.desc).map (fun d => d.parameters.length) = some 2 := by decide +kernel
theorem g_indexOf : jm_good y_indexOf := ⟨by decide +kernel, jw_2_69, jw_1_6, by decide +kernel, by decide +kernel⟩
theorem jm_lt2 {q : Nat} (h : q < 128) : q < 2 ^ 31 := by omega
theorem jm_chr {q : Nat} (h : q < 128) : ((nI q &&& (Int16.ofInt 255).toInt32).toUInt32 % 65536).toInt32 = nI q := by
  rw [pk_andN (k := 8) (by omega) (by decide), show q % 2 ^ 8 = q from Nat.mod_eq_of_lt (by omega), pk_char, pk_tn (by omega), show q % 65536 = q from Nat.mod_eq_of_lt (by omega)]
section
variable {l : Launch} {A : Nat → Prop} {a d n : Nat} {f : Nat → Int32}
theorem jm_pck {i : Nat} {w : Value} (hw : w = .null ∨ ∃ t, w = .ref t) (hi : i < n) (hn : n < 2 ^ 31) : jm_C l y_pck 1 60 [.int (nI i), .int (nI n), w] (fun _ => True) (some (.int (nI i))) := by
  have hlen : (lg_sl [.int (nI i), .int (nI n), w]).length ≤ y_pck.2.2.1 := by
    rcases hw with rfl | ⟨t, rfl⟩
    · exact Nat.le_of_ble_eq_true rfl
    · exact Nat.le_of_ble_eq_true rfl
  refine jm_of g_pck hlen (fun p e s m args below meth c ls S hlk hrt hJ hls => ?_)
  obtain ⟨hx, hb, hml, hown, hts⟩ := S
  have l0 : ls[0]? = some (.val (.int (nI i))) := hls.2.2 (0, .int (nI i)) List.mem_cons_self
  have l1 : ls[1]? = some (.val (.int (nI n))) := hls.2.2 (1, .int (nI n)) (List.mem_cons_of_mem _ List.mem_cons_self)
  refine lv_iload_n hx hb (k := 0) (by decide +kernel) rfl l0 ?_
  refine lv_if_lt hx hb (off := 8) (tgt := 9) (by decide +kernel) (by decide) (fun z => absurd z (nI_pos (by omega))) (fun _ => ?_)
  refine lv_iload_n hx hb (k := 0) (by decide +kernel) rfl l0 ?_
  refine lv_iload_n hx hb (k := 1) (by decide +kernel) rfl l1 ?_
  refine lv_icmp_lt hx hb (off := 10) (tgt := 16) (by decide +kernel) (by decide) (fun _ => ?_) (fun z => absurd (nI_lt hi hn) z)
  refine lv_iload_n hx hb (k := 0) (by decide +kernel) rfl l0 ?_
  exact W.iret hx hb hrt (fun t ht hW => ⟨rfl, ht⟩) (fun q hq => by cases hq) (by decide +kernel) hlk
theorem jm_true : jm_bl (fun _ => True) := fun _ _ _ _ _ => trivial
theorem jm_sck {i : Nat} (hi : i < n) : jm_C l y_sck 2 100 [.int (nI i), .int (nI n)] (jm_J A a d n f) none := by
  refine jm_of g_sck (Nat.le_of_ble_eq_true rfl) (fun p e s m args below meth c ls S hlk hrt hJ hls => ?_)
  have S' := S
  obtain ⟨hx, hb, hml, hown, hts⟩ := S
  obtain ⟨j1, j2, j3, j4, j5, j6, j7⟩ := hJ
  have l0 : ls[0]? = some (.val (.int (nI i))) := hls.2.2 (0, .int (nI i)) List.mem_cons_self
  have l1 : ls[1]? = some (.val (.int (nI n))) := hls.2.2 (1, .int (nI n)) (List.mem_cons_of_mem _ List.mem_cons_self)
  obtain ⟨w, hw, j6⟩ : ∃ w : Value, (w = .null ∨ ∃ t, w = .ref t) ∧ va_Z "jdk/internal/util/Preconditions" "SIOOBE_FORMATTER" "Ljava/util/function/BiFunction;" w A s s.heap := by
    rcases j6 with j6 | ⟨t, j6⟩
    · exact ⟨_, Or.inl rfl, j6⟩
    · exact ⟨_, Or.inr ⟨t, rfl⟩, j6⟩
  refine lv_iload_n hx hb (k := 0) (by decide +kernel) rfl l0 ?_
  refine lv_iload_n hx hb (k := 1) (by decide +kernel) rfl l1 ?_
  refine va_gets hx hb j6 va_S.rf hown (hts _ jw_1_239) (fun x h => h) (by decide +kernel) ?_
  refine jm_S (vs := [.int (nI i), .int (nI n), w]) (rest := []) S' (jm_pck hw hi j7) g_pck jm_true (fun _ _ _ => trivial) jw_2_1 jw_2_2 dd_pck hls.1 (Nat.le_of_ble_eq_true rfl) (by decide +kernel) ⟨by decide, by decide⟩ ⟨Nat.le_refl _, Nat.le_refl _⟩ ?_
  refine lv_pop hx hb (by decide +kernel) rfl ?_
  exact W.vret hx hb hrt (fun t ht hW => ⟨rfl, ht⟩) (fun q hq => by cases hq) (by decide +kernel) hlk
theorem jm_lcharAt {i q : Nat} (hi : i < n) (hq : q < 128) (hf : f i = nI q) : jm_C l y_lcharAt 3 130 [.ref d, .int (nI i)] (jm_J A a d n f) (some (.int (nI q))) := by
  refine jm_of g_lcharAt (Nat.le_of_ble_eq_true rfl) (fun p e s m args below meth c ls S hlk hrt hJ hls => ?_)
  have S' := S
  obtain ⟨hx, hb, hml, hown, hts⟩ := S
  have hJ' := hJ
  obtain ⟨j1, j2, j3, j4, j5, j6, j7⟩ := hJ
  have l0 : ls[0]? = some (.val (.ref d)) := hls.2.2 (0, .ref d) List.mem_cons_self
  have l1 : ls[1]? = some (.val (.int (nI i))) := hls.2.2 (1, .int (nI i)) (List.mem_cons_of_mem _ List.mem_cons_self)
  refine lv_iload_n hx hb (k := 1) (by decide +kernel) rfl l1 ?_
  refine lv_aload_n hx hb (k := 0) (by decide +kernel) rfl l0 ?_
  refine jm_alen hx hb j4 va_S.rf (by decide +kernel) ?_
  refine jm_S (vs := [.int (nI i), .int (nI n)]) (rest := []) S' (jm_sck (a := a) (d := d) (f := f) (A := A) hi) g_sck jm_J.bl hJ'.at jw_1_236 jw_1_237 dd_sck hls.1 (Nat.le_of_ble_eq_true rfl) (by decide +kernel) ⟨by decide, by decide⟩ ⟨Nat.le_refl _, Nat.le_refl _⟩ ?_
  refine lv_aload_n hx hb (k := 0) (by decide +kernel) rfl l0 ?_
  refine lv_iload_n hx hb (k := 1) (by decide +kernel) rfl l1 ?_
  refine jm_bald hx hb j4 va_S.rf hi j7 (by decide +kernel) ?_
  rw [hf]
  refine lv_sipush hx hb (n := 255) (by decide +kernel) rfl ?_
  refine lv_iand hx hb (by decide +kernel) ?_
  refine lv_i2c hx hb (by decide +kernel) (jm_chr hq) ?_
  exact W.zret hx hb hrt (pk_charN (by omega)).1 (fun t ht hW => ⟨rfl, ht⟩) (fun q hq => by cases hq) (by decide +kernel) hlk
theorem jm_charAt {i q : Nat} (hi : i < n) (hq : q < 128) (hf : f i = nI q) : jm_C l y_charAt 4 160 [.ref a, .int (nI i)] (jm_J A a d n f) (some (.int (nI q))) := by
  refine jm_of g_charAt (Nat.le_of_ble_eq_true rfl) (fun p e s m args below meth c ls S hlk hrt hJ hls => ?_)
  have S' := S
  obtain ⟨hx, hb, hml, hown, hts⟩ := S
  have hJ' := hJ
  obtain ⟨j1, j2, j3, j4, j5, j6, j7⟩ := hJ
  have l0 : ls[0]? = some (.val (.ref a)) := hls.2.2 (0, .ref a) List.mem_cons_self
  have l1 : ls[1]? = some (.val (.int (nI i))) := hls.2.2 (1, .int (nI i)) (List.mem_cons_of_mem _ List.mem_cons_self)
  refine lv_aload_n hx hb (k := 0) (by decide +kernel) rfl l0 ?_
  refine jm_V (As := []) (rest := []) S' jm_isLatin1 g_isLatin1 jm_J.bl hJ'.at hJ'.cell jw_1_229 jw_1_230 jw_1_231 (by decide +kernel) hls.1 (Nat.le_of_ble_eq_true rfl) (by decide +kernel) ⟨by decide, by decide⟩ ⟨Nat.le_refl _, Nat.le_refl _⟩ ?_
  refine lv_if_eq hx hb (off := 12) (tgt := 16) (by decide +kernel) (by decide) (fun z => absurd z (by decide)) (fun _ => ?_)
  refine lv_aload_n hx hb (k := 0) (by decide +kernel) rfl l0 ?_
  refine vk_getf hx hb j3 va_S.rf hown (hts _ jw_2_154) (fun x h => h) (by decide +kernel) ?_
  refine lv_iload_n hx hb (k := 1) (by decide +kernel) rfl l1 ?_
  refine jm_S (vs := [.ref d, .int (nI i)]) (rest := []) S' (jm_lcharAt (a := a) hi hq hf) g_lcharAt jm_J.bl hJ'.at jw_1_233 jw_1_234 dd_lcharAt hls.1 (Nat.le_of_ble_eq_true rfl) (by decide +kernel) ⟨by decide, by decide⟩ ⟨Nat.le_refl _, Nat.le_refl _⟩ ?_
  exact W.zret hx hb hrt (pk_charN (by omega)).1 (fun t ht hW => ⟨rfl, ht⟩) (fun q hq => by cases hq) (by decide +kernel) hlk
theorem jm_can {q : Nat} (hq : q < 128) : jm_C l y_can 1 60 [.int (nI q)] (fun _ => True) (some (.int 1)) := by
  refine jm_of g_can (Nat.le_of_ble_eq_true rfl) (fun p e s m args below meth c ls S hlk hrt hJ hls => ?_)
  obtain ⟨hx, hb, hml, hown, hts⟩ := S
  have l0 : ls[0]? = some (.val (.int (nI q))) := hls.2.2 (0, .int (nI q)) List.mem_cons_self
  refine lv_iload_n hx hb (k := 0) (by decide +kernel) rfl l0 ?_
  refine lv_if_lt hx hb (off := 14) (tgt := 15) (by decide +kernel) (by decide) (fun z => absurd z (nI_pos (by omega))) (fun _ => ?_)
  refine lv_iload_n hx hb (k := 0) (by decide +kernel) rfl l0 ?_
  refine lv_sipush hx hb (n := 255) (v := nI 255) (by decide +kernel) (by decide) ?_
  refine lv_icmp_gt hx hb (off := 7) (tgt := 15) (by decide +kernel) (by decide) (fun z => absurd z (nI_nlt (by omega) (by omega))) (fun _ => ?_)
  refine lv_iconst hx hb (n := 1) (by decide +kernel) rfl ?_
  refine lv_goto hx hb (off := 4) (tgt := 16) (by decide +kernel) (by decide) ?_
  exact W.zret hx hb hrt rfl (fun t ht hW => ⟨rfl, ht⟩) (fun q hq => by cases hq) (by decide +kernel) hlk
/-- where a byte stands -/
def jm_ix (g : Nat → Nat) (q : Nat) : Nat → Nat → Int
  | 0, _ => -1
  | k + 1, i => if g i = q then (i : Int) else jm_ix g q k (i + 1)
theorem jm_i8 {q : Nat} (h : q < 128) : (nI q).toInt8.toInt32 = nI q := by
  have h1 : (nI q) = Int32.ofInt (q : Int) := rfl
  rw [h1, ga_i2b]
  congr 1
  unfold w8
  omega
theorem jm_ixc {g : Nat → Nat} {q i0 : Nat} (hq : q < 128) (hg : ∀ j, j < n → g j < 128) (hf : ∀ j, j < n → f j = nI (g j)) (hi : i0 ≤ n) : jm_C l y_ixc 1 60 [.ref d, .int (nI q), .int (nI i0), .int (nI n)] (jm_J A a d n f) (some (.int (Int32.ofInt (jm_ix g q (n - i0) i0)))) := by
  refine jm_of g_ixc (Nat.le_of_ble_eq_true rfl) (fun p e s m args below meth c ls S hlk hrt hJ hls => ?_)
  obtain ⟨hx, hb, hml, hown, hts⟩ := S
  obtain ⟨j1, j2, j3, j4, j5, j6, j7⟩ := hJ
  have l1 : ls[1]? = some (.val (.int (nI q))) := hls.2.2 (1, .int (nI q)) (List.mem_cons_of_mem _ List.mem_cons_self)
  refine lv_iload_n hx hb (k := 1) (by decide +kernel) rfl l1 ?_
  refine lv_i2b hx hb (by decide +kernel) (jm_i8 hq) ?_
  refine lv_istore hx hb (i := 4) (by decide +kernel) hls (by decide) rfl (fun ls1 h1 => ?_)
  refine lv_iload_n hx hb (k := 2) (by decide +kernel) rfl (lv_at h1 3 rfl) ?_
  refine lv_istore hx hb (i := 5) (by decide +kernel) h1 (by decide) rfl (fun ls2 h2 => ?_)
  have key : ∀ (k i : Nat) (ls : Array Slot), n - i = k → i ≤ n → lv_has ls 6 [(5, .int (nI i)), (4, .int (nI q)), (0, .ref d), (1, .int (nI q)), (2, .int (nI i0)), (3, .int (nI n))] →
      W p l e (jm_rm 1 60) s m args below meth c s.heap [] 0 0 (MQ below (jm_Q (some (.int (Int32.ofInt (jm_ix g q k i))))) args s 0 0 (fun _ => False)) (F0 m 7 ls []) := by
    intro k
    induction k with
    | zero =>
      intro i ls hk hin h
      have hi : i = n := by omega
      subst hi
      refine lv_iload hx hb (i := 5) (by decide +kernel) (lv_at h 0 rfl) ?_
      refine lv_iload_n hx hb (k := 3) (by decide +kernel) rfl (lv_at h 5 rfl) ?_
      refine lv_icmp_ge hx hb (off := 21) (tgt := 31) (by decide +kernel) (by decide) (fun _ => ?_) (fun z => absurd (Int32.le_refl _) z)
      refine lv_iconst hx hb (n := -1) (by decide +kernel) rfl ?_
      exact W.iret hx hb hrt (fun t ht hW => ⟨rfl, ht⟩) (fun q hq => by cases hq) (by decide +kernel) hlk
    | succ k ih =>
      intro i ls hk hin h
      have hlt : i < n := by omega
      refine lv_iload hx hb (i := 5) (by decide +kernel) (lv_at h 0 rfl) ?_
      refine lv_iload_n hx hb (k := 3) (by decide +kernel) rfl (lv_at h 5 rfl) ?_
      refine lv_icmp_ge hx hb (off := 21) (tgt := 31) (by decide +kernel) (by decide) (fun z => absurd z (nI_ge hlt j7)) (fun _ => ?_)
      refine lv_aload_n hx hb (k := 0) (by decide +kernel) rfl (lv_at h 2 rfl) ?_
      refine lv_iload hx hb (i := 5) (by decide +kernel) (lv_at h 0 rfl) ?_
      refine jm_bald hx hb j4 va_S.rf hlt j7 (by decide +kernel) ?_
      rw [hf i hlt]
      refine lv_iload hx hb (i := 4) (by decide +kernel) (lv_at h 1 rfl) ?_
      have hgi := hg i hlt
      refine lv_icmp_ne hx hb (off := 6) (tgt := 25) (by decide +kernel) (by decide) (fun z => ?_) (fun z => ?_)
      · have hne : g i ≠ q := fun e => z (by rw [e])
        rw [show jm_ix g q (k + 1) i = jm_ix g q k (i + 1) from if_neg hne]
        refine lv_iinc hx hb (k := 0) (i := 5) (n := 1) (by decide +kernel) h rfl (nI_1 i) (by decide) rfl (fun ls1 h1 => ?_)
        refine lv_goto hx hb (off := -21) (tgt := 7) (by decide +kernel) (by decide) ?_
        exact ih (i + 1) ls1 (by omega) (by omega) h1
      · have he : g i = q := (nI_eq (by omega) (by omega)).mp z
        rw [show jm_ix g q (k + 1) i = (i : Int) from if_pos he]
        refine lv_iload hx hb (i := 5) (by decide +kernel) (lv_at h 0 rfl) ?_
        exact W.iret hx hb hrt (fun t ht hW => ⟨rfl, ht⟩) (fun q hq => by cases hq) (by decide +kernel) hlk
  exact key (n - i0) i0 ls2 rfl hi h2
theorem jm_lix {g : Nat → Nat} {q i0 : Nat} (hq : q < 128) (hg : ∀ j, j < n → g j < 128) (hf : ∀ j, j < n → f j = nI (g j)) (hi0 : i0 < 2 ^ 31) : jm_C l y_lix 2 100 [.ref d, .int (nI q), .int (nI i0), .int (nI n)] (jm_J A a d n f) (some (.int (Int32.ofInt (jm_ix g q (n - i0) i0)))) := by
  refine jm_of g_lix (Nat.le_of_ble_eq_true rfl) (fun p e s m args below meth c ls S hlk hrt hJ hls => ?_)
  have S' := S
  obtain ⟨hx, hb, hml, hown, hts⟩ := S
  have hJ' := hJ
  obtain ⟨j1, j2, j3, j4, j5, j6, j7⟩ := hJ
  have hsz := hls.1
  have l1 : ls[1]? = some (.val (.int (nI q))) := lv_at hls 1 rfl
  refine lv_iload_n hx hb (k := 1) (by decide +kernel) rfl l1 ?_
  refine jm_S (vs := [.int (nI q)]) (rest := []) S' (jm_can hq) g_can jm_true (fun _ _ _ => trivial) jw_2_74 jw_2_75 dd_can hsz (Nat.le_of_ble_eq_true rfl) (by decide +kernel) ⟨by decide, by decide⟩ ⟨Nat.le_refl _, Nat.le_refl _⟩ ?_
  refine lv_if_ne hx hb (off := 5) (tgt := 9) (by decide +kernel) (by decide) (fun _ => ?_) (fun z => absurd z (by decide))
  refine lv_iload_n hx hb (k := 2) (by decide +kernel) rfl (lv_at hls 2 rfl) ?_
  refine lv_iconst hx hb (n := 0) (by decide +kernel) rfl ?_
  refine va_mmax hx hb (by rw [hml, hsz]) hown (hts _ jw_2_77) (hts _ jw_2_78) (hts _ jw_1_11) (hts _ jw_2_79) (by decide) (Nat.le_of_ble_eq_true rfl) (Nat.zero_le _) (Nat.zero_le _) (by decide +kernel) ?_
  rw [show (if nI i0 < Int32.ofInt 0 then Int32.ofInt 0 else nI i0) = nI i0 from if_neg (nI_pos hi0)]
  refine lv_istore_n hx hb (k := 2) (by decide +kernel) rfl hls (by decide) rfl (fun ls1 h1 => ?_)
  refine lv_iload_n hx hb (k := 3) (by decide +kernel) rfl (lv_at h1 3 rfl) ?_
  refine lv_aload_n hx hb (k := 0) (by decide +kernel) rfl (lv_at h1 1 rfl) ?_
  refine jm_alen hx hb j4 va_S.rf (by decide +kernel) ?_
  refine va_mmin hx hb (by rw [hml, h1.1]) hown (hts _ jw_2_80) (hts _ jw_2_81) (hts _ jw_1_11) (hts _ jw_2_82) (by decide) (Nat.le_of_ble_eq_true rfl) (Nat.zero_le _) (Nat.zero_le _) (by decide +kernel) ?_
  rw [show (if Int32.ofNat n < nI n then Int32.ofNat n else nI n) = nI n from if_neg (fun z => Int32.lt_irrefl z)]
  refine lv_istore_n hx hb (k := 3) (by decide +kernel) rfl h1 (by decide) rfl (fun ls2 h2 => ?_)
  refine lv_iload_n hx hb (k := 2) (by decide +kernel) rfl (lv_at h2 1 rfl) ?_
  refine lv_iload_n hx hb (k := 3) (by decide +kernel) rfl (lv_at h2 0 rfl) ?_
  refine lv_icmp_lt hx hb (off := 5) (tgt := 29) (by decide +kernel) (by decide) (fun z => ?_) (fun z => ?_)
  · have hin : i0 < n := (nI_ltI hi0 j7).mp z
    refine lv_aload_n hx hb (k := 0) (by decide +kernel) rfl (lv_at h2 2 rfl) ?_
    refine lv_iload_n hx hb (k := 1) (by decide +kernel) rfl (lv_at h2 3 rfl) ?_
    refine lv_iload_n hx hb (k := 2) (by decide +kernel) rfl (lv_at h2 1 rfl) ?_
    refine lv_iload_n hx hb (k := 3) (by decide +kernel) rfl (lv_at h2 0 rfl) ?_
    refine jm_S (vs := [.ref d, .int (nI q), .int (nI i0), .int (nI n)]) (rest := []) S' (jm_ixc (a := a) hq hg hf (by omega)) g_ixc jm_J.bl hJ'.at jw_2_83 jw_2_84 dd_ixc h2.1 (Nat.le_of_ble_eq_true rfl) (by decide +kernel) ⟨by decide, by decide⟩ ⟨Nat.le_refl _, Nat.le_refl _⟩ ?_
    exact W.iret hx hb hrt (fun t ht hW => ⟨rfl, ht⟩) (fun q hq => by cases hq) (by decide +kernel) hlk
  · have hin : ¬ i0 < n := fun y => z ((nI_ltI hi0 j7).mpr y)
    rw [show n - i0 = 0 by omega]
    refine lv_iconst hx hb (n := -1) (by decide +kernel) rfl ?_
    exact W.iret hx hb hrt (fun t ht hW => ⟨rfl, ht⟩) (fun q hq => by cases hq) (by decide +kernel) hlk
theorem jm_indexOf {g : Nat → Nat} {q i0 : Nat} (hq : q < 128) (hg : ∀ j, j < n → g j < 128) (hf : ∀ j, j < n → f j = nI (g j)) (hi0 : i0 < 2 ^ 31) : jm_C l y_indexOf 5 200 [.ref a, .int (nI q), .int (nI i0)] (jm_J A a d n f) (some (.int (Int32.ofInt (jm_ix g q (n - i0) i0)))) := by
  refine jm_of g_indexOf (Nat.le_of_ble_eq_true rfl) (fun p e s m args below meth c ls S hlk hrt hJ hls => ?_)
  have S' := S
  obtain ⟨hx, hb, hml, hown, hts⟩ := S
  have hJ' := hJ
  obtain ⟨j1, j2, j3, j4, j5, j6, j7⟩ := hJ
  have l0 : ls[0]? = some (.val (.ref a)) := hls.2.2 (0, .ref a) List.mem_cons_self
  refine lv_aload_n hx hb (k := 0) (by decide +kernel) rfl l0 ?_
  refine jm_V (As := []) (rest := []) S' jm_isLatin1 g_isLatin1 jm_J.bl hJ'.at hJ'.cell jw_1_229 jw_1_230 jw_1_231 (by decide +kernel) hls.1 (Nat.le_of_ble_eq_true rfl) (by decide +kernel) ⟨by decide, by decide⟩ ⟨Nat.le_refl _, Nat.le_refl _⟩ ?_
  refine lv_if_eq hx hb (off := 19) (tgt := 23) (by decide +kernel) (by decide) (fun z => absurd z (by decide)) (fun _ => ?_)
  refine lv_aload_n hx hb (k := 0) (by decide +kernel) rfl l0 ?_
  refine vk_getf hx hb j3 va_S.rf hown (hts _ jw_2_154) (fun x h => h) (by decide +kernel) ?_
  refine lv_iload_n hx hb (k := 1) (by decide +kernel) rfl (lv_at hls 1 rfl) ?_
  refine lv_iload_n hx hb (k := 2) (by decide +kernel) rfl (lv_at hls 2 rfl) ?_
  refine lv_aload_n hx hb (k := 0) (by decide +kernel) rfl l0 ?_
  refine jm_V (As := []) S' jm_length g_length jm_J.bl hJ'.at hJ'.cell jw_2_70 jw_1_216 jw_1_217 (by decide +kernel) hls.1 (Nat.le_of_ble_eq_true rfl) (by decide +kernel) ⟨by decide, by decide⟩ ⟨Nat.le_refl _, Nat.le_refl _⟩ ?_
  refine jm_S (vs := [.ref d, .int (nI q), .int (nI i0), .int (nI n)]) (rest := []) S' (jm_lix (a := a) hq hg hf hi0) g_lix jm_J.bl hJ'.at jw_2_71 jw_2_72 dd_lix hls.1 (Nat.le_of_ble_eq_true rfl) (by decide +kernel) ⟨by decide, by decide⟩ ⟨Nat.le_refl _, Nat.le_refl _⟩ ?_
  refine lv_goto hx hb (off := 16) (tgt := 36) (by decide +kernel) (by decide) ?_
  exact W.iret hx hb hrt (fun t ht hW => ⟨rfl, ht⟩) (fun q hq => by cases hq) (by decide +kernel) hlk
end

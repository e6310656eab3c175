/-! what else holds of a state: texts, constants of the enum, statics of the library -/
def y_ord : jm_N := (⟨"java/lang/Enum", "ordinal", "()I"⟩, prog_14_method_2_code, 1, some .int)
theorem g_ord : jm_good y_ord := ⟨by decide +kernel, jw_5_166, jw_1_15, by decide +kernel, by decide +kernel⟩
theorem jm_ord {l : Launch} {A : Nat → Prop} {t : Nat} {x : Int32} : jm_C l y_ord 1 60 [.ref t] (fun U => va_OF "java/lang/Enum" "ordinal" "I" (.int x) t A U U.heap) (some (.int x)) := by
  refine jm_of g_ord (Nat.le_of_ble_eq_true rfl) (fun p e s m args below meth c ls S hlk hrt hJ hls => ?_)
  obtain ⟨hx, hb, hml, hown, hts⟩ := S
  refine lv_aload_n hx hb (k := 0) (by decide +kernel) rfl (lv_at hls 0 rfl) ?_
  refine vk_getf hx hb hJ va_S.rf hown (hts _ jw_14_106) (fun x h => h) (by decide +kernel) ?_
  exact W.iret hx hb hrt (fun t ht hW => ⟨rfl, ht⟩) (fun q hq => by cases hq) (by decide +kernel) hlk
def am_isO (E : ga_E) (cnt : Nat → Nat) (q : Nat) : Prop := ∃ c n : Nat, c ≠ 8 ∧ n < cnt c ∧ q = E.1 c n
/-- a text at a -/
def am_SSd (A : Nat → Prop) (U0 : State) (H : Heap) (a : Nat) (x : Int) : Prop := ∃ d : Nat, va_O "java/lang/String" a A U0 H ∧ va_OF "java/lang/String" "coder" "B" (.int 0) a A U0 H ∧ va_OF "java/lang/String" "value" "[B" (.ref d) a A U0 H ∧ va_T .byte d (am_txt x).length (fun j => .int (Int32.ofInt ((am_txt x).getD j 0))) A U0 H
theorem am_SSd.kept {A : Nat → Prop} {U0 : State} {H H1 : Heap} {a : Nat} {x : Int} (h : am_SSd A U0 H a x) (hq : ∀ a : Nat, a < H.size → ¬ A a → H1[a]? = H[a]?) : am_SSd A U0 H1 a x := by
  obtain ⟨d, h1, h2, h3, h4⟩ := h
  exact ⟨d, h1.kept hq, h2.kept hq, h3.kept hq, h4.kept hq⟩
abbrev am_YS (E : ga_E) (cnt : Nat → Nat) (U0 : State) : ga_Y := am_Y E cnt (am_SSd (am_isO E cnt) U0)
theorem am_SS {E : ga_E} {cnt : Nat → Nat} {U0 : State} : ga_SS (am_YS E cnt U0) := fun H H1 a x hk h => h.kept (fun q h1 h2 => hk.2 q h1 h2)
def am_ords : List Int32 := (List.range 64).map Int32.ofNat
def am_Sx (E : ga_E) (cnt : Nat → Nat) (U0 : State) (D : va_G) (U : State) : Prop :=
  U0.vm.Alike U.vm ∧ va_Z "java/lang/String" "COMPACT_STRINGS" "Z" (.int 1) (am_isO E cnt) U U.heap ∧ va_Zq "jdk/internal/util/Preconditions" "SIOOBE_FORMATTER" "Ljava/util/function/BiFunction;" (am_isO E cnt) U U.heap ∧ va_K D cl_S [] U ∧
  va_En "RuleSentences$Token" "LRuleSentences$Token;" am_toks [("java/lang/Enum", "ordinal", "I", am_ords)] (E.1 8) (am_isO E cnt) U U.heap ∧
  ∀ q ∈ am_strs, ∃ a : Nat, vk_R q.1 q.2.1 (am_lits.getD q.2.2.toNat "") a U ∧ am_SSd (am_isO E cnt) U0 U.heap a q.2.2
theorem am_En_kept {E d : String} {nm : List String} {F : List (String × String × String × List Int32)} {ad : Nat → Nat} {A : Nat → Prop} {U : State} {H H1 : Heap} (h : va_En E d nm F ad A U H) (hq : ∀ a : Nat, a < H.size → ¬ A a → H1[a]? = H[a]?) : va_En E d nm F ad A U H1 :=
  ⟨fun i hi => ⟨(h.1 i hi).1.kept hq, (h.1 i hi).2.1.kept hq, fun q hF => ((h.1 i hi).2.2 q hF).kept hq⟩, h.2⟩
theorem am_SX {E : ga_E} {cnt : Nat → Nat} {U0 : State} {D : va_G} : ga_SX (am_YS E cnt U0) (am_Sx E cnt U0 D) := by
  refine ⟨fun s U h ev eh => ?_, fun s U h hW hk => ?_⟩
  · obtain ⟨h1, h2, h3, h4, h5, h6⟩ := h
    have hv : s.vm.Alike U.vm := by rw [ev]; exact Vm.Alike.refl _
    unfold am_Sx
    rw [eh]
    refine ⟨h1.trans hv, va_Z.moved hv h2, va_Zq.moved hv h3, va_K.moved hv h4, va_En.moved hv h5, fun q hq => ?_⟩
    obtain ⟨a, k1, k2⟩ := h6 q hq
    exact ⟨a, vk_R.same ev k1, k2⟩
  · obtain ⟨h1, h2, h3, h4, h5, h6⟩ := h
    have hv := hW.alike
    have hq : ∀ a : Nat, a < s.heap.size → ¬ am_isO E cnt a → U.heap[a]? = s.heap[a]? := fun a g1 g2 => hk.2 a g1 g2
    refine ⟨h1.trans hv, (va_Z.moved hv h2).kept hq, (va_Zq.moved hv h3).kept hq, va_K.moved hv h4, am_En_kept (va_En.moved hv h5) hq, fun q hm => ?_⟩
    obtain ⟨a, k1, k2⟩ := h6 q hm
    exact ⟨a, vk_R.warm hW k1, k2.kept hq⟩
theorem am_Z_re {C n d : String} {v : Value} {A B : Nat → Prop} {U : State} (h : va_Z C n d v A U U.heap) (hB : ∀ q : Nat, q < U.heap.size → ¬ A q → ¬ B q) : va_Z C n d v B U U.heap := by
  obtain ⟨cf, kf, fi, f, a, cell, h1, h2, h3, h4, h5, h6, h7, h8⟩ := h
  exact ⟨cf, kf, fi, f, a, cell, h1, h2, h3, h4, h5, h6, h7, hB a (Array.getElem?_eq_some_iff.mp h5).1 h8⟩
theorem am_Ar_re {E : ga_E} {cnt : Nat → Nat} {U0 : State} {sz : Nat} : ∀ q : Nat, q < sz → ¬ am_isO E cnt q → ¬ ga_Ar (am_YS E cnt U0) sz q := by
  rintro q h1 h2 (h3 | h3)
  · exact h2 h3
  · omega
theorem va_ldcwS {p : Program} {l : Launch} {e : Env} {R : Room} {s : State} {m : MethodId} {args : Array Value} {below : List Frame} {meth : Method} {c : Code} {H : Heap} {locs : List Loc} {cells slots : Nat} {Q : State → Prop} {cc : ByteArray} {pc : Nat} {ls : Array Slot} {rest : List Value} (hexec : p.tables.exec = Jvm.exec) (hb : c.code = cc) {own tx : String} {index q : Nat} (hown : s.vm.findClass own = some m.cls) (hZ : vk_R own index tx q s) (hdg : decode cc pc = .ok (.ldc_w index, 3))
    (k : W p l e R s m args below meth c H locs cells slots Q (F0 m (pc + 3) ls (.ref q :: rest))) : W p l e R s m args below meth c H locs cells slots Q (F0 m pc ls rest) := by
  intro T hT X
  obtain ⟨t, a1, b1⟩ := k T hT X
  exact ⟨t, X.ldcStringW hexec hown (text := tx) (a := q) hZ.1 hZ.2 (g := F0 m pc ls rest) rfl (by rw [hb]; exact hdg) t a1, b1⟩
theorem am_Sp {E : ga_E} {cnt : Nat → Nat} {U0 : State} {D : va_G} (h8 : cnt 8 = 64) (X : ga_CX) (cc : ByteArray) (own : String) (rk : Nat) (r : ga_R) (hX : ga_ok (am_YS E cnt U0) X cc own rk r) (hSx : am_Sx E cnt U0 D (ga_xs X)) : ga_SP (am_YS E cnt U0) X cc (am_gsP own) (am_lcP own) := by
  obtain ⟨p, l, e, R, s, m, args, below, meth, c, Q, nL, a0⟩ := X
  obtain ⟨hx, hb, hml, hown, hts, hlocks, hKN, hQ, hrm, hrs⟩ := hX
  obtain ⟨k1, k2, k3, k4, k5, k6⟩ := (hSx : am_Sx E cnt U0 D s)
  refine ⟨fun idx a d hg pc H ls sv locs k hd hS kk => ?_, fun idx a d hg hne pc H ls sv locs k i hd hS kk => ?_, fun idx d hg pc H ls sv locs k hd hS kk => ?_⟩
  · obtain ⟨rfl, hd0, n, hn, hl⟩ := hg
    have hlt : d.toNat < am_toks.length := (List.getElem?_eq_some_iff.mp hn).1
    have hZ := (k5.1 d.toNat hlt).1
    have hnm : am_toks.getD d.toNat "" = n := by rw [List.getD_eq_getElem?_getD, hn]; rfl
    rw [hnm] at hZ
    refine va_gets (A := ga_Ar (am_YS E cnt U0) s.heap.size) hx hb (am_Z_re hZ am_Ar_re) hS hown (hts _ (ga_in_tb hl)) (fun x h => h) hd (kk _ (Or.inr ⟨?_, ?_⟩))
    · show Value.ref _ = (if d < 0 then Value.null else Value.ref (E.1 8 d.toNat))
      rw [if_neg (by omega)]
    · have : am_toks.length = 64 := by decide
      refine ⟨by omega, ?_, fun z => absurd (show am_sing 8 = true from z) (by decide)⟩
      show d < (cnt 8 : Int)
      omega
  · rcases hg with ⟨rfl, hr, hl⟩ | ⟨rfl, hr, hl⟩ | ⟨rfl, hm⟩
    · rcases hd with ⟨rfl, hd⟩ | ⟨rfl, hd⟩
      · exact W.ldc hx hb hown (hts _ (ga_in_tb hl)) (g := F0 m pc ls sv) rfl hd (kk _ (ga_vr_mi hr))
      · exact lv_ldcw hx hb hown (hts _ (ga_in_tb hl)) hd (kk _ (ga_vr_mi hr))
    · exact absurd rfl hne
    · obtain ⟨a, q1, q2⟩ := k6 _ hm
      have hkk := kk (.ref a) (Or.inl ⟨rfl, a, rfl, q2.kept (fun q g1 g2 => hS.2.1 q g1 (am_Ar_re q g1 g2))⟩)
      rcases hd with ⟨rfl, hd⟩ | ⟨rfl, hd⟩
      · exact va_ldcS hx hb hown q1 hd hkk
      · exact va_ldcwS hx hb hown q1 hd hkk
  · rcases hg with ⟨h, -⟩ | ⟨-, hr, hl⟩ | ⟨h, -⟩
    · cases h
    · exact W.ldc2 hx hb hown (hts _ (ga_in_tb hl)) (g := F0 m pc ls sv) rfl hd (kk _ (ga_vr_ml hr))
    · cases h

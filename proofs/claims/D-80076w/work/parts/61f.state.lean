/-! what holds of the old cells -/
def gk_Sx (base : Nat) (U0 : State) (D9 : va_G) (ad : Nat → Nat) (U : State) : Prop :=
  U0.vm.Alike U.vm ∧ va_Z "java/lang/String" "COMPACT_STRINGS" "Z" (.int 1) (fun q => base ≤ q) U U.heap ∧ va_Zq "jdk/internal/util/Preconditions" "SIOOBE_FORMATTER" "Ljava/util/function/BiFunction;" (fun q => base ≤ q) U U.heap ∧ va_K D9 cl_S [] U ∧
  va_En "RuleSentences$Token" "LRuleSentences$Token;" am_toks [("java/lang/Enum", "ordinal", "I", am_ords)] ad (fun q => base ≤ q) U U.heap ∧
  ∀ q ∈ am_strs, ∃ a : Nat, vk_R q.1 q.2.1 (am_lits.getD q.2.2.toNat "") a U ∧ am_SSd (fun q => base ≤ q) U0 U.heap a q.2.2
theorem gk_SSd_narrow {A B : Nat → Prop} {U0 : State} {H : Heap} {a : Nat} {x : Int} (h : am_SSd A U0 H a x) (hAB : ∀ q, B q → A q) : am_SSd B U0 H a x := by
  obtain ⟨d, h1, h2, h3, h4⟩ := h
  exact ⟨d, h1.narrow hAB, h2.narrow hAB, h3.narrow hAB, h4.narrow hAB⟩
theorem gk_Sx_am {base : Nat} {U0 U : State} {D9 : va_G} {ad : Nat → Nat} {E : ga_E} {cnt : Nat → Nat} (h : gk_Sx base U0 D9 ad U) (hE : E.1 8 = ad) (hb : ∀ q, am_isO E cnt q → base ≤ q) : am_Sx E cnt U0 D9 U := by
  obtain ⟨h1, h2, h3, h4, h5, h6⟩ := h
  refine ⟨h1, h2.narrow hb, h3.narrow hb, h4, by rw [hE]; exact h5.narrow hb, fun q hq => ?_⟩
  obtain ⟨a, a1, a2⟩ := h6 q hq
  exact ⟨a, a1, gk_SSd_narrow a2 hb⟩
theorem gk_Sx_warm {base : Nat} {U0 s U : State} {D9 : va_G} {ad : Nat → Nat} (h : gk_Sx base U0 D9 ad s) (hW : s.WarmedH U.vm) (hq : ∀ q : Nat, q < base → U.heap[q]? = s.heap[q]?) : gk_Sx base U0 D9 ad U := by
  obtain ⟨h1, h2, h3, h4, h5, h6⟩ := h
  have hv := hW.alike
  have hk : ∀ a : Nat, a < s.heap.size → ¬ (base ≤ a) → U.heap[a]? = s.heap[a]? := fun a _ g => hq a (by omega)
  refine ⟨h1.trans hv, (va_Z.moved hv h2).kept hk, (va_Zq.moved hv h3).kept hk, va_K.moved hv h4, am_En_kept (va_En.moved hv h5) hk, fun q hm => ?_⟩
  obtain ⟨a, k1, k2⟩ := h6 q hm
  exact ⟨a, vk_R.warm hW k1, k2.kept hk⟩
theorem gk_Sx_same {base : Nat} {U0 s U : State} {D9 : va_G} {ad : Nat → Nat} (h : gk_Sx base U0 D9 ad s) (ev : U.vm = s.vm) (eh : U.heap = s.heap) : gk_Sx base U0 D9 ad U := by
  obtain ⟨h1, h2, h3, h4, h5, h6⟩ := h
  have hv : s.vm.Alike U.vm := by rw [ev]; exact Vm.Alike.refl _
  unfold gk_Sx
  rw [eh]
  refine ⟨h1.trans hv, va_Z.moved hv h2, va_Zq.moved hv h3, va_K.moved hv h4, va_En.moved hv h5, fun q hq => ?_⟩
  obtain ⟨a, k1, k2⟩ := h6 q hq
  exact ⟨a, vk_R.same ev k1, k2⟩

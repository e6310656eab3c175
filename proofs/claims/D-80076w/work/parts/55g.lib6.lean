/-! members of the library: String's constructor, newString, substring -/
def T_S : u_T := am_T [("java/lang/String", "value", "[B", true), ("java/lang/String", "coder", "B", true), ("java/lang/String", "hash", "I", false), ("java/lang/String", "hashIsZero", "Z", false)]
def cl_S : List vw_C := [("java/lang/String", T_S, 4)]
def ty_S (k : Nat) : FieldType := [FieldType.array .byte, .byte, .int, .boolean].getD k .int
theorem ty_S_ok : ∀ k, k < 4 → parseFieldDescriptor (T_S k).2.2.1 = some (ty_S k) := by
  intro k hk
  match k, hk with
  | 0, _ => decide +kernel
  | 1, _ => decide +kernel
  | 2, _ => decide +kernel
  | 3, _ => decide +kernel
theorem nm_S : ∀ a, a < 4 → ∀ b, b < 4 → a ≠ b → (T_S a).2.1 ≠ (T_S b).2.1 := by decide +kernel
theorem in_S : ∀ w ∈ u_ws "java/lang/String" T_S 4, w ∈ ga_gw := by
  show ∀ w ∈ [u_lay "java/lang/String" T_S 0, u_lay "java/lang/String" T_S 1, u_lay "java/lang/String" T_S 2, u_lay "java/lang/String" T_S 3], w ∈ ga_gw
  exact List.forall_mem_cons.mpr ⟨jw_2_156, List.forall_mem_cons.mpr ⟨jw_2_158, List.forall_mem_cons.mpr ⟨jw_2_160, List.forall_mem_cons.mpr ⟨jw_2_162, fun w h => by cases h⟩⟩⟩⟩
def fs_S : List Value := [.null, .int 0, .int 0, .int 0]
def jm_Pi (D : va_G) (sz h0 : Nat) (vs : List Value) : Array Value → State → Prop := jm_P vs (fun U => U.heap.size = sz ∧ va_P D cl_S [(h0, .inr (0, fs_S))] U.heap ∧ va_K D cl_S [] U)
def jm_Qi (D : va_G) (h0 d2 : Nat) : Array Value → State → Outcome → State → Prop := fun _ st o t => o = .returned none ∧ va_P D cl_S [(h0, .inr (0, [.ref d2, .int 0, .int 0, .int 0]))] t.heap ∧ st.heap.size ≤ t.heap.size ∧ ∀ x : Nat, x < st.heap.size → x ≠ h0 → t.heap[x]? = st.heap[x]?
section
variable {l : Launch} {D : va_G} {sz : Nat}
theorem jm_sini {h0 d2 : Nat} : Met l y_sini.1 (jm_ws y_sini) (jm_rm 2 100) (jm_Pi D sz h0 [.ref h0, .ref d2, .int 0]) (jm_Qi D h0 d2) 0 0 (fun q => q = h0 ∨ sz ≤ q) := by
  refine Met.ofW (cc := y_sini.2.1) (maxL := y_sini.2.2.1) (ret := y_sini.2.2.2) g_sini.1 rfl ?_
  intro p e s m args below meth c s₁ B hml hv
  obtain ⟨rfl, hsz, hP, hK⟩ := hv
  have hts0 := atoms_spec (ws := jm_ws y_sini) B.pre
  have hts : ∀ w ∈ ga_gw, w.before _ s = true := fun w hw => hts0 w (List.mem_cons_of_mem _ hw)
  have hx := B.exec
  have hb := B.bytes
  have hrt := B.returns
  have hlk := B.notSynchronized
  have hown : s.vm.findClass "java/lang/String" = some m.cls := findClass_of_methodNamed B.named
  have hin : meth.name = "<init>" := (name_of_methodNamed B.named B.method).1
  have hls := lv_entry ([.ref h0, .ref d2, .int 0]) (n := 3) (Nat.le_of_ble_eq_true rfl)
  rw [lg_entry_eq]
  subst hsz
  have hD : va_D (fun q => q = h0 ∨ s.heap.size ≤ q) [(h0, .inr (0, fs_S))] := by
    refine ⟨fun i j p q h1 h2 _ => ?_, fun k q h => ?_⟩
    · match i, j with
      | 0, 0 => rfl
      | i + 1, _ => simp at h1
      | 0, j + 1 => simp at h2
    · match k with
      | 0 => cases h; exact Or.inl rfl
      | k + 1 => simp at h
  have hS : va_S (fun q => q = h0 ∨ s.heap.size ≤ q) s.heap s.heap [] := va_S.rf
  refine lv_aload_n hx hb (k := 0) (by decide +kernel) rfl (lv_at hls 0 rfl) ?_
  refine W.objInit hx hb hown (hts _ jw_2_153) (hts _ jw_1_26) (hts _ jw_1_27) rfl (by rw [hml]; exact hls.1) rfl (show decode y_sini.2.1 1 = _ by decide +kernel) (Nat.le_of_ble_eq_true rfl) (Nat.le_of_ble_eq_true rfl) ?_
  refine W.eq (g2 := F0 m 4 _ []) rfl ?_
  refine lv_aload_n hx hb (k := 0) (by decide +kernel) rfl (lv_at hls 0 rfl) ?_
  refine lv_aload_n hx hb (k := 1) (by decide +kernel) rfl (lv_at hls 1 rfl) ?_
  refine va_putF (D := D) (ci := 0) (cl := cl_S) (v := .ref d2) (ty := .array .byte) (C := "java/lang/String") (T := T_S) (N := 4) hx hb hts in_S ty_S ty_S_ok nm_S hown hK hP hD hS 0 rfl rfl 0 (by decide) (hts _ jw_2_154) (fun _ h9 => h9) rfl hin rfl (by decide +kernel) rfl rfl (Nat.le_of_ble_eq_true rfl) (by decide +kernel) (fun H1 locs1 hP1 hD1 hS1 => ?_)
  refine lv_aload_n hx hb (k := 0) (by decide +kernel) rfl (lv_at hls 0 rfl) ?_
  refine lv_iload_n hx hb (k := 2) (by decide +kernel) rfl (lv_at hls 2 rfl) ?_
  refine va_putF (D := D) (ci := 0) (cl := cl_S) (v := .int 0) (ty := .byte) (C := "java/lang/String") (T := T_S) (N := 4) hx hb hts in_S ty_S ty_S_ok nm_S hown hK hP1 hD1 hS1 0 rfl rfl 1 (by decide) (hts _ jw_2_155) (fun _ h9 => h9) rfl hin rfl (by decide +kernel) rfl rfl (Nat.le_of_ble_eq_true rfl) (by decide +kernel) (fun H2 locs2 hP2 hD2 hS2 => ?_)
  exact W.vret hx hb hrt (fun t ht hW => ⟨rfl, by rw [ht]; exact hP2, by rw [ht]; exact hS2.1, fun x h1 h2 => by rw [ht]; exact hS2.2.1 x h1 (fun z => by rcases z with z | z; exact h2 z; omega)⟩) hS2.2.2 (by decide +kernel) hlk
end

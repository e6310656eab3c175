/-! members of the library: newString, substring -/
def jm_FS (D : va_G) (sz k : Nat) (f : Nat → Int32) (b : Nat) (v : Option Value) (U : State) : Prop := ∃ (r q : Nat) (cA : ClassId), v = some (.ref r) ∧ sz ≤ r ∧ sz ≤ q ∧ va_P D cl_S [(r, .inr (0, [.ref q, .int 0, .int 0, .int 0]))] U.heap ∧ ArrOfT U cA .byte ∧ U.heap[q]? = some (vp_cell cA (k, .inl (va_cpy f (fun _ => 0) b 0 k)))
theorem jm_FS_al {D : va_G} {sz k : Nat} {f : Nat → Int32} {b : Nat} : jm_al (jm_FS D sz k f b) := by
  rintro v t U ⟨r, q, cA, h1, h2, h3, h4, h5, h6⟩ hv hh
  exact ⟨r, q, cA, h1, h2, h3, by rw [hh]; exact h4, arrOfT_moved hv h5, by rw [hh]; exact h6⟩
section
variable {p : Program} {l : Launch} {e : Env} {R : Room} {s : State} {m : MethodId} {args : Array Value} {below : List Frame} {meth : Method} {c : Code} {H : Heap} {locs : List Loc} {cells slots : Nat} {Q : State → Prop}
theorem jm_IW {D : va_G} {h0 d2 sz : Nat} {a : Array Value} {pc : Nat} {ls : Array Slot} {st0 rest : List Value} {A : Nat → Prop} (hr : va_Run p l e R s m args below meth c H locs cells slots 0 0 (F0 m pc ls st0) rest (jm_Qi D h0 d2 a) (fun q => q = h0 ∨ sz ≤ q)) (hsz : H.size = sz) (hS : va_S A s.heap H locs) (hA : ∀ q, s.heap.size ≤ q → A q) (h0A : s.heap.size ≤ h0)
    (kk : ∀ (H2 : Heap) (locs1 : List Loc), va_P D cl_S [(h0, .inr (0, [.ref d2, .int 0, .int 0, .int 0]))] H2 → H.size ≤ H2.size → (∀ x : Nat, x < H.size → x ≠ h0 → H2[x]? = H[x]?) → va_S A s.heap H2 locs1 → W p l e R s m args below meth c H2 locs1 cells slots Q (F0 m (pc + 3) ls rest)) : W p l e R s m args below meth c H locs cells slots Q (F0 m pc ls st0) := by
  intro T hT X
  subst hsz
  obtain ⟨v', st₀, t, T', L, hh, X', hL, e1, e2, ⟨hv, hf, h3, h4⟩, st⟩ := hr T hT X
  cases hv
  rw [hh] at h3 h4
  obtain ⟨t2, a1, b1⟩ := kk T'.heap (locs ++ L) (by rw [e1]; exact hf) (by rw [e1]; exact h3) (fun x h1 h2 => by rw [e1]; exact h4 x h1 h2) ⟨Nat.le_trans hS.1 (by rw [e1]; exact h3), fun q h1 h2 => by
      rw [e1, h4 q (Nat.lt_of_lt_of_le h1 hS.1) (by omega)]
      exact hS.2.1 q h1 h2, fun q hq => by
      rcases List.mem_append.mp hq with h | h
      · exact hS.2.2 q h
      · rcases hL q h with z | z
        · rw [z]; exact hA _ h0A
        · exact hA _ (Nat.le_trans hS.1 z)⟩ T' rfl X'
  exact ⟨t2, st t2 a1, b1⟩
end
section
variable {l : Launch} {D : va_G} {a d n b en k sz : Nat} {f : Nat → Int32}
theorem jm_news_bl : jm_bl (fun U => va_T .byte d n (fun j => .int (f j)) (fun _ => False) U U.heap ∧ va_K D cl_S [] U) := fun U U' h e1 e2 => ⟨jm_T_bl U U' h.1 e1 e2, va_K.moved (by rw [e1]; exact Vm.Alike.refl _) h.2⟩
theorem jm_news (hk : 0 < k) (hen : b + k ≤ n) (hne : b ≠ 0 ∨ b + k ≠ n) (hn : n < 2 ^ 31) (h11 : k ≤ 12) (hby : ∀ j : Nat, j < n → fits .byte (.int (f j)) = true) :
    jm_Cm l y_news 5 220 2 16 sz [.ref d, .int (nI b), .int (nI k)] (fun U => va_T .byte d n (fun j => .int (f j)) (fun _ => False) U U.heap ∧ va_K D cl_S [] U) (jm_FS D sz k f b) := by
  refine jm_ofm g_news (Nat.le_of_ble_eq_true rfl) (fun p e s m args below meth c ls S hlk hrt hnm hsz hJ hls => ?_)
  have S' := S
  obtain ⟨hx, hb, hml, hown, hts⟩ := S
  obtain ⟨hT0, hK⟩ := hJ
  have hT := jm_re (B := fun q => s.heap.size ≤ q) hT0 (fun q h z => by omega)
  refine lv_iload_n hx hb (k := 2) (by decide +kernel) rfl (lv_at hls 2 rfl) ?_
  refine lv_if_ne hx hb (off := 6) (tgt := 7) (by decide +kernel) (by decide) (fun _ => ?_) (fun z => absurd z (nI_ne0 hk (by omega)))
  refine va_new (D := D) (cl := cl_S) (ws := []) (tys := []) (ci := 0) (A := fun q => s.heap.size ≤ q) (H0 := s.heap) (C := "java/lang/String") (T := T_S) (N := 4) (fs := fs_S) hx hb hts in_S ty_S ty_S_ok hown (hts _ jw_2_130) (hts _ jw_2_131) (hts _ jw_1_6) hK (fun k q h => by simp at h) jm_D0 va_S.rf (fun q h => h) rfl (by decide) (Nat.le_of_ble_eq_true rfl) (Nat.le_of_ble_eq_true rfl) (by decide +kernel) (fun q H1 hP hD hS => ?_)
  have hq : s.heap.size ≤ q := hD.2 0 _ rfl
  refine lv_dup hx hb (by decide +kernel) rfl ?_
  refine lv_aload_n hx hb (k := 0) (by decide +kernel) rfl (lv_at hls 0 rfl) ?_
  refine lv_iload_n hx hb (k := 1) (by decide +kernel) rfl (lv_at hls 1 rfl) ?_
  refine lv_iload_n hx hb (k := 1) (by decide +kernel) rfl (lv_at hls 1 rfl) ?_
  refine lv_iload_n hx hb (k := 2) (by decide +kernel) rfl (lv_at hls 2 rfl) ?_
  refine lv_iadd hx hb (by decide +kernel) ?_
  rw [nI_add]
  refine jm_Sm (vs := [.ref d, .int (nI b), .int (nI (b + k))]) (rest := [.ref q, .ref q]) (A := fun q => s.heap.size ≤ q) (sz := H1.size) S' (jm_cor (by omega) hen hne hn (by omega) hby) g_cor jm_T_bl jm_Fa_al (fun U h1 h2 => by rw [h1]; exact va_T.moved h2.alike ((hT.kept hS.2.1).narrow (fun _ h => h.elim))) jw_2_132 jw_2_133 dd_cor hls.1 (Nat.le_of_ble_eq_true rfl) (by decide +kernel) ⟨by decide, by decide⟩ ⟨Nat.le_of_ble_eq_true rfl, Nat.le_of_ble_eq_true rfl⟩ rfl hS (fun q h => h) (fun U locs1 v hW hF h1 h2 hS1 => ?_)
  obtain ⟨q2, cA, rfl, k1, k2, k3⟩ := hF
  rw [show b + k - b = k by omega] at k3
  have hqlt : q < H1.size := (hP 0 _ rfl).lt
  have hP1 : va_P D cl_S [(q, .inr (0, fs_S))] U.heap := va_P.kept hP (fun k x hx => by
    match k with
    | 0 => cases hx; exact h2 q hqlt
    | k + 1 => simp at hx)
  refine lv_iconst hx hb (n := 0) (by decide +kernel) rfl ?_
  refine jm_IW (D := D) (h0 := q) (d2 := q2) (A := fun q => s.heap.size ≤ q) (va_runI (Ts := ga_gw) (b := q) (As := [.ref q2, .int 0]) (rest := [.ref q]) S' (jm_sini (D := D) (sz := U.heap.size)) ⟨⟨rfl, rfl, by decide, by decide, pay_in hts (jm_wsg g_sini), List.mem_cons_self, hts _ g_sini.2.1, hts _ g_sini.2.2.1, g_sini.2.2.2, fun sig h => by have := dd_sini; rw [h] at this; exact (Option.some.inj this).symm, hts _ jw_2_150⟩, rfl, hts _ jw_2_151⟩
    ⟨jm_blind (fun U1 U2 h e1 e2 => ⟨by rw [e2]; exact h.1, by rw [e2]; exact h.2.1, va_K.moved (by rw [e1]; exact Vm.Alike.refl _) h.2.2⟩), fun U1 g1 g2 => ⟨rfl, by rw [g1], by rw [g1]; exact hP1, va_K.moved g2.alike hK⟩⟩ rfl rfl hls.1 rfl (Nat.le_of_ble_eq_true rfl) (show decode y_news.2.1 20 = .ok (.invokespecial 112, 3) by decide +kernel) ⟨Nat.le_of_ble_eq_true rfl, Nat.le_of_ble_eq_true rfl⟩) rfl hS1 (fun q h => h) hq (fun H2 locs2 hP2 z1 z2 hS2 => ?_)
  have hq2lt : q2 < U.heap.size := (Array.getElem?_eq_some_iff.mp k3).1
  refine W.aret hx hb hrt (Or.inl ⟨_, rfl⟩) (Or.inr ⟨_, rfl⟩) (fun t ht hWt => ⟨_, rfl, ⟨q, q2, cA, rfl, by rw [← hsz]; exact hq, ?_, by rw [ht]; exact hP2, arrOfT_moved (hW.alike.symm.trans hWt.alike) k2, ?_⟩, ?_, fun x hx2 => ?_⟩) (fun q hq => by rw [← hsz]; exact hS2.2.2 q hq) (by decide +kernel) hlk
  · have := hS.1
    omega
  · rw [ht, z2 q2 hq2lt (by omega)]
    exact k3
  · rw [ht, ← hsz]
    exact hS2.1
  · rw [ht]
    exact hS2.2.1 x (by rw [hsz]; exact hx2) (fun z => by omega)
def jm_Fu (D : va_G) (sz a n b en : Nat) (f : Nat → Int32) (v : Option Value) (U : State) : Prop := (b = 0 ∧ en = n ∧ v = some (.ref a)) ∨ jm_FS D sz (en - b) f b v U
theorem jm_Fu_al : jm_al (jm_Fu D sz a n b en f) := by
  rintro v t U (h | h) hv hh
  · exact Or.inl h
  · exact Or.inr (jm_FS_al v t U h hv hh)
theorem jm_subs_bl {A : Nat → Prop} : jm_bl (fun U => jm_J A a d n f U ∧ va_K D cl_S [] U) := fun U U' h e1 e2 => ⟨jm_J.bl U U' h.1 e1 e2, va_K.moved (by rw [e1]; exact Vm.Alike.refl _) h.2⟩
theorem jm_subs {A : Nat → Prop} (hbe : b < en) (hen : en ≤ n) (h11 : en - b ≤ 12) (hby : ∀ j : Nat, j < n → fits .byte (.int (f j)) = true) :
    jm_Cm l y_subs 6 270 2 16 sz [.ref a, .int (nI b), .int (nI en)] (fun U => jm_J A a d n f U ∧ va_K D cl_S [] U) (jm_Fu D sz a n b en f) := by
  refine jm_ofm g_subs (Nat.le_of_ble_eq_true rfl) (fun p e s m args below meth c ls S hlk hrt hnm hsz hJ hls => ?_)
  have S' := S
  obtain ⟨hx, hb, hml, hown, hts⟩ := S
  obtain ⟨hJ', hK⟩ := hJ
  have hJ := hJ'
  obtain ⟨j1, j2, j3, j4, j5, j6, j7⟩ := hJ
  refine lv_aload_n hx hb (k := 0) (by decide +kernel) rfl (lv_at hls 0 rfl) ?_
  refine jm_V (As := []) (rest := []) S' jm_length g_length jm_J.bl hJ'.at hJ'.cell jw_2_70 jw_1_216 jw_1_217 (by decide +kernel) hls.1 (Nat.le_of_ble_eq_true rfl) (by decide +kernel) ⟨by decide, by decide⟩ ⟨Nat.zero_le _, Nat.zero_le _⟩ ?_
  refine lv_istore_n hx hb (k := 3) (by decide +kernel) rfl hls (by decide) rfl (fun ls1 h1 => ?_)
  refine lv_iload_n hx hb (k := 1) (by decide +kernel) rfl (lv_at h1 2 rfl) ?_
  refine lv_iload_n hx hb (k := 2) (by decide +kernel) rfl (lv_at h1 3 rfl) ?_
  refine lv_iload_n hx hb (k := 3) (by decide +kernel) rfl (lv_at h1 0 rfl) ?_
  refine jm_S (vs := [.int (nI b), .int (nI en), .int (nI n)]) (rest := []) S' (jm_cbe (A := A) (a := a) (d := d) (f := f) (by omega) hen) g_cbe jm_J.bl hJ'.at jw_2_125 jw_2_99 dd_cbe h1.1 (Nat.le_of_ble_eq_true rfl) (by decide +kernel) ⟨by decide, by decide⟩ ⟨Nat.zero_le _, Nat.zero_le _⟩ ?_
  have main : (b ≠ 0 ∨ en ≠ n) → W p l e (jm_rmk 6 270 2 16) s m args below meth c s.heap [] 0 0 (MQ below (jm_M sz (jm_Fu D sz a n b en f)) args s 2 16 (fun q => sz ≤ q)) (F0 m 22 ls1 []) := by
    intro hne
    refine lv_iload_n hx hb (k := 2) (by decide +kernel) rfl (lv_at h1 3 rfl) ?_
    refine lv_iload_n hx hb (k := 1) (by decide +kernel) rfl (lv_at h1 2 rfl) ?_
    refine lv_isub hx hb (by decide +kernel) ?_
    rw [pk_sub (by omega)]
    refine lv_istore hx hb (i := 4) (by decide +kernel) h1 (by decide) rfl (fun ls2 h2 => ?_)
    refine lv_aload_n hx hb (k := 0) (by decide +kernel) rfl (lv_at h2 2 rfl) ?_
    refine jm_V (As := []) (rest := []) S' jm_isLatin1 g_isLatin1 jm_J.bl hJ'.at hJ'.cell jw_1_229 jw_1_230 jw_1_231 (by decide +kernel) h2.1 (Nat.le_of_ble_eq_true rfl) (by decide +kernel) ⟨by decide, by decide⟩ ⟨Nat.zero_le _, Nat.zero_le _⟩ ?_
    refine lv_if_eq hx hb (off := 16) (tgt := 47) (by decide +kernel) (by decide) (fun z => absurd z (by decide)) (fun _ => ?_)
    refine lv_aload_n hx hb (k := 0) (by decide +kernel) rfl (lv_at h2 2 rfl) ?_
    refine vk_getf hx hb j3 va_S.rf hown (hts _ jw_2_154) (fun x h => h) (by decide +kernel) ?_
    refine lv_iload_n hx hb (k := 1) (by decide +kernel) rfl (lv_at h2 3 rfl) ?_
    refine lv_iload hx hb (i := 4) (by decide +kernel) (lv_at h2 0 rfl) ?_
    refine jm_Sm (vs := [.ref d, .int (nI b), .int (nI (en - b))]) (rest := []) (A := fun q => s.heap.size ≤ q) (sz := sz) S' (jm_news (D := D) (n := n) (f := f) (by omega) (by omega) (by omega) j7 (by omega) hby) g_news jm_news_bl jm_FS_al (fun U g1 g2 => ⟨by rw [g1]; exact va_T.moved g2.alike (jm_re j4 (fun _ _ h => h)), va_K.moved g2.alike hK⟩) jw_2_126 jw_2_127 dd_news h2.1 (Nat.le_of_ble_eq_true rfl) (by decide +kernel) ⟨by decide, by decide⟩ ⟨Nat.le_refl _, Nat.le_refl _⟩ hsz va_S.rf (fun q h => h) (fun U locs1 v hW hF g1 g2 hS => ?_)
    have hF0 := hF
    obtain ⟨r, q, cA, rfl, k1⟩ := hF
    refine lv_goto hx hb (off := 13) (tgt := 57) (by decide +kernel) (by decide) ?_
    exact W.aret hx hb hrt (Or.inl ⟨_, rfl⟩) (Or.inr ⟨_, rfl⟩) (fun t ht hWt => ⟨_, rfl, Or.inr (jm_FS_al _ U t hF0 (hW.alike.symm.trans hWt.alike) ht), by rw [ht, ← hsz]; exact g1, fun x hx2 => by rw [ht]; exact g2 x (by rw [hsz]; exact hx2)⟩) (fun q hq => by rw [← hsz]; exact hS.2.2 q hq) (by decide +kernel) hlk
  refine lv_iload_n hx hb (k := 1) (by decide +kernel) rfl (lv_at h1 2 rfl) ?_
  refine lv_if_ne hx hb (off := 10) (tgt := 22) (by decide +kernel) (by decide) (fun z => main (Or.inl (fun e => z (by rw [e]; rfl)))) (fun z => ?_)
  have hb0 : b = 0 := (nI_eq (a := b) (b := 0) (by omega) (by decide)).mp z
  refine lv_iload_n hx hb (k := 2) (by decide +kernel) rfl (lv_at h1 3 rfl) ?_
  refine lv_iload_n hx hb (k := 3) (by decide +kernel) rfl (lv_at h1 0 rfl) ?_
  refine lv_icmp_ne hx hb (off := 5) (tgt := 22) (by decide +kernel) (by decide) (fun z2 => main (Or.inr (fun e => z2 (by rw [e]; rfl)))) (fun z2 => ?_)
  have hen2 : en = n := (nI_eq (by omega) j7).mp z2
  refine lv_aload_n hx hb (k := 0) (by decide +kernel) rfl (lv_at h1 1 rfl) ?_
  refine W.widen (k := 2) (n := 16) (Nat.zero_le _) (Nat.zero_le _) ?_
  exact W.aret hx hb hrt (Or.inl ⟨_, rfl⟩) (Or.inr ⟨_, rfl⟩) (fun t ht hWt => ⟨_, rfl, Or.inl ⟨hb0, hen2, rfl⟩, by rw [ht, hsz]; exact Nat.le_refl _, fun x hx2 => by rw [ht]⟩) (fun q hq => by cases hq) (by decide +kernel) hlk
end

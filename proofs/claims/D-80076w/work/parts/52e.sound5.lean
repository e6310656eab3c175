/-! AM is sound, 5: runs and methods -/
theorem ga_mask_mem {q : Nat × ga_V} : ∀ (ks : List Nat) (L : ga_L), q ∈ ga_mask ks L → q ∈ L
  | [], _, h => by simp [ga_mask] at h
  | k :: r, L, h => by
    simp only [ga_mask] at h
    split at h
    · rename_i q' e
      rcases List.mem_cons.mp h with rfl | h
      · exact List.mem_of_find?_eq_some e
      · exact ga_mask_mem r L h
    · exact ga_mask_mem r L h
theorem ga_km_mem {M : ga_M} {pc : Nat} {L : ga_L} {q : Nat × ga_V} (h : q ∈ ga_km M pc L) : q ∈ L := by
  unfold ga_km at h
  split at h
  · exact ga_mask_mem _ _ h
  · exact h
theorem ga_F_km {Y : ga_Y} {X : ga_CX} {M : ga_M} {pc : Nat} {L : ga_L} {st : List ga_V} {σ : ga_S} (h : ga_F Y X pc (ga_km M pc L) st σ) : ga_F Y X pc L st σ :=
  fun H ls sv locs a b c d e => h H ls sv locs a ⟨b.1, b.2.1, fun q hq => b.2.2 q (ga_km_mem hq)⟩ c d e
theorem ga_it_succ {α β : Type} (nx : α → Option (α ⊕ β)) (n : Nat) (a : α) : ga_it nx (n + 1) a = (nx a).bind (fun o => match o with
    | .inl a' => ga_it nx n a'
    | .inr b => some b) := by
  simp only [ga_it]
  cases nx a with
  | none => rfl
  | some o => cases o <;> rfl
theorem ga_it_ok {Y : ga_Y} {X : ga_CX} {cc : ByteArray} {own : String} {M : ga_M} {r : ga_R} (hT : ga_TB Y) (hSS : ga_SS Y) (hX : ga_ok Y X cc own M.2.2.1 r) {ml : Nat → Bool → Nat → Nat → Nat → Int → Prop} {gs lc : Nat → Nat → Int → Prop} {call : Nat → List ga_V → ga_S → Option ga_R}
    (hC : ga_CR Y X cc ml call) (hP : ga_SP Y X cc gs lc) (hM : ∀ pc i nx a b c e d, M.1 pc = (i, nx, a, b, c, e, d) → i = .nop ∨ ga_crt Y (ga_xn X) own ml gs lc cc i pc nx a b c e d) :
    ∀ (n pc : Nat) (L : ga_L) (st : List ga_V) (σ : ga_S), ga_it (ga_nx Y.2.2.1 call M) n (pc, L, st, σ) = some r → ga_al σ ≤ ga_al r.2 ∧ ga_F Y X pc L st σ := by
  intro n
  induction n with
  | zero => intro pc L st σ h; simp [ga_it] at h
  | succ n ih =>
    intro pc L st σ h
    rw [ga_it_succ] at h
    unfold ga_nx ga_one at h
    rw [show (pc, L, st, σ).1 = pc from rfl, show (pc, L, st, σ).2.1 = L from rfl, show (pc, L, st, σ).2.2.1 = st from rfl, show (pc, L, st, σ).2.2.2 = σ from rfl] at h
    cases hq : M.1 pc with
    | mk i q =>
      obtain ⟨nx, a, b, c, e, d⟩ := q
      rw [hq] at h
      dsimp only at h
      rw [ga_step_b] at h
      rcases hM pc i nx a b c e d hq with hz | hz
      · subst hz
        simp [ga_step] at h
      · refine ga_step_ok hT hSS hX hC hP (fun pc' L' st' σ' hk => ?_) (fun q hk => ?_) hz h
        · obtain ⟨h1, h2⟩ := ih pc' (ga_km M pc' L') st' σ' hk
          exact ⟨h1, ga_F_km h2⟩
        · exact Option.some.inj hk
/-! AM is sound, 5a: Strings are made, never unmade -/
theorem ga_step_mono {G : ga_G} {call : Nat → List ga_V → ga_S → Option ga_R} {rk : Nat} {K : Nat → ga_L → List ga_V → ga_S → Option ga_R} {Rt : ga_R → Option ga_R} {r : ga_R} (hK : ∀ pc' L' st' σ', K pc' L' st' σ' = some r → ga_al σ' ≤ ga_al r.2) (hR : ∀ q, Rt q = some r → q = r) (hcall : ∀ j vs σ q, call j vs σ = some q → ga_al σ ≤ ga_al q.2)
    (harr : ∀ c : Nat, (G.2.2 c).1 < 5 → (G.2.2 c).2.2.1 < 999 → (G.2.2 c).2.2.2.1 ≠ 330) {i : Instr} {pc nx a b c e : Nat} {d : Int} {L : ga_L} {st : List ga_V} {σ : ga_S} (hput : ∀ idx, i = .putfield idx → c < 999 → e ≠ 330) (h : ga_step G call rk K Rt i pc nx a b c e d L st σ = some r) : ga_al σ ≤ ga_al r.2 := by
  cases i
  case iconst n =>
    simp only [ga_step] at h
    exact hK _ _ _ _ (ga_cond_inv h).2
  case bipush n =>
    simp only [ga_step] at h
    exact hK _ _ _ _ (ga_cond_inv h).2
  case sipush n =>
    simp only [ga_step] at h
    exact hK _ _ _ _ (ga_cond_inv h).2
  case lconst n =>
    simp only [ga_step] at h
    cases hb : Nat.beq n.val 0 with
    | true => rw [hb] at h; exact hK _ _ _ _ h
    | false => rw [hb] at h; exact hK _ _ _ _ h
  case ldc n =>
    simp only [ga_step] at h
    exact hK _ _ _ _ h
  case ldc_w n =>
    simp only [ga_step] at h
    exact hK _ _ _ _ h
  case ldc2_w n =>
    simp only [ga_step] at h
    exact hK _ _ _ _ h
  case getstatic n =>
    simp only [ga_step] at h
    exact hK _ _ _ _ h
  case goto n =>
    simp only [ga_step] at h
    exact hK _ _ _ _ h
  case iload j =>
    simp only [ga_step] at h
    obtain ⟨u, v, hm, hu, h2⟩ := ga_load_inv h
    exact hK _ _ _ _ h2
  case istore j =>
    simp only [ga_step] at h
    obtain ⟨u, v, rest, rfl, hu, h2⟩ := ga_store_inv h
    exact hK _ _ _ _ h2
  case iload_n j =>
    simp only [ga_step] at h
    obtain ⟨u, v, hm, hu, h2⟩ := ga_load_inv h
    exact hK _ _ _ _ h2
  case istore_n j =>
    simp only [ga_step] at h
    obtain ⟨u, v, rest, rfl, hu, h2⟩ := ga_store_inv h
    exact hK _ _ _ _ h2
  case lload j =>
    simp only [ga_step] at h
    obtain ⟨u, v, hm, hu, h2⟩ := ga_load_inv h
    exact hK _ _ _ _ h2
  case lstore j =>
    simp only [ga_step] at h
    obtain ⟨u, v, rest, rfl, hu, h2⟩ := ga_store_inv h
    exact hK _ _ _ _ h2
  case lload_n j =>
    simp only [ga_step] at h
    obtain ⟨u, v, hm, hu, h2⟩ := ga_load_inv h
    exact hK _ _ _ _ h2
  case lstore_n j =>
    simp only [ga_step] at h
    obtain ⟨u, v, rest, rfl, hu, h2⟩ := ga_store_inv h
    exact hK _ _ _ _ h2
  case aload j =>
    simp only [ga_step] at h
    obtain ⟨u, v, hm, hu, h2⟩ := ga_load_inv h
    exact hK _ _ _ _ h2
  case astore j =>
    simp only [ga_step] at h
    obtain ⟨u, v, rest, rfl, hu, h2⟩ := ga_store_inv h
    exact hK _ _ _ _ h2
  case aload_n j =>
    simp only [ga_step] at h
    obtain ⟨u, v, hm, hu, h2⟩ := ga_load_inv h
    exact hK _ _ _ _ h2
  case astore_n j =>
    simp only [ga_step] at h
    obtain ⟨u, v, rest, rfl, hu, h2⟩ := ga_store_inv h
    exact hK _ _ _ _ h2
  case iinc j n =>
    simp only [ga_step] at h
    obtain ⟨u, v, hm, h2⟩ := ga_get_inv h
    have h3 := (ga_cond_inv h2).2
    rw [ga_set_eq] at h3
    exact hK _ _ _ _ h3
  case iadd =>
    simp only [ga_step] at h
    obtain ⟨x, y, rest, rfl, h2⟩ := ga_bin_inv h
    exact hK _ _ _ _ h2
  case isub =>
    simp only [ga_step] at h
    obtain ⟨x, y, rest, rfl, h2⟩ := ga_bin_inv h
    exact hK _ _ _ _ h2
  case imul =>
    simp only [ga_step] at h
    obtain ⟨x, y, rest, rfl, h2⟩ := ga_bin_inv h
    exact hK _ _ _ _ h2
  case iand =>
    simp only [ga_step] at h
    obtain ⟨x, y, rest, rfl, h2⟩ := ga_bin_inv h
    exact hK _ _ _ _ h2
  case ior =>
    simp only [ga_step] at h
    obtain ⟨x, y, rest, rfl, h2⟩ := ga_bin_inv h
    exact hK _ _ _ _ h2
  case ixor =>
    simp only [ga_step] at h
    obtain ⟨x, y, rest, rfl, h2⟩ := ga_bin_inv h
    exact hK _ _ _ _ h2
  case ishl =>
    simp only [ga_step] at h
    obtain ⟨x, y, rest, rfl, h2⟩ := ga_bin_inv h
    exact hK _ _ _ _ h2
  case ishr =>
    simp only [ga_step] at h
    obtain ⟨x, y, rest, rfl, h2⟩ := ga_bin_inv h
    exact hK _ _ _ _ h2
  case ladd =>
    simp only [ga_step] at h
    obtain ⟨x, y, rest, rfl, h2⟩ := ga_bin_inv h
    exact hK _ _ _ _ h2
  case lsub =>
    simp only [ga_step] at h
    obtain ⟨x, y, rest, rfl, h2⟩ := ga_bin_inv h
    exact hK _ _ _ _ h2
  case lmul =>
    simp only [ga_step] at h
    obtain ⟨x, y, rest, rfl, h2⟩ := ga_bin_inv h
    exact hK _ _ _ _ h2
  case land =>
    simp only [ga_step] at h
    obtain ⟨x, y, rest, rfl, h2⟩ := ga_bin_inv h
    exact hK _ _ _ _ h2
  case lor =>
    simp only [ga_step] at h
    obtain ⟨x, y, rest, rfl, h2⟩ := ga_bin_inv h
    exact hK _ _ _ _ h2
  case lshl =>
    simp only [ga_step] at h
    obtain ⟨x, y, rest, rfl, h2⟩ := ga_bin_inv h
    exact hK _ _ _ _ h2
  case lshr =>
    simp only [ga_step] at h
    obtain ⟨x, y, rest, rfl, h2⟩ := ga_bin_inv h
    exact hK _ _ _ _ h2
  case lushr =>
    simp only [ga_step] at h
    obtain ⟨x, y, rest, rfl, h2⟩ := ga_bin_inv h
    exact hK _ _ _ _ h2
  case idiv =>
    simp only [ga_step] at h
    split at h
    · exact hK _ _ _ _ (ga_nz_inv (ga_cond_inv h).2).2
    · cases h
  case irem =>
    simp only [ga_step] at h
    split at h
    · exact hK _ _ _ _ (ga_nz_inv (ga_cond_inv h).2).2
    · cases h
  case lcmp =>
    simp only [ga_step] at h
    split at h
    · exact hK _ _ _ _ (ga_cond_inv h).2
    · cases h
  case ineg =>
    simp only [ga_step] at h
    obtain ⟨x, rest, rfl, h2⟩ := ga_una_inv h
    exact hK _ _ _ _ h2
  case i2l =>
    simp only [ga_step] at h
    obtain ⟨x, rest, rfl, h2⟩ := ga_una_inv h
    exact hK _ _ _ _ h2
  case l2i =>
    simp only [ga_step] at h
    obtain ⟨x, rest, rfl, h2⟩ := ga_una_inv h
    exact hK _ _ _ _ h2
  case i2b =>
    simp only [ga_step] at h
    obtain ⟨x, rest, rfl, h2⟩ := ga_una_inv h
    exact hK _ _ _ _ h2
  case dup =>
    simp only [ga_step] at h
    split at h
    · exact hK _ _ _ _ (ga_ncond_inv h).2
    · cases h
  case dup_x1 =>
    simp only [ga_step] at h
    split at h
    · exact hK _ _ _ _ (ga_ncond_inv h).2
    · cases h
  case dup2 =>
    simp only [ga_step] at h
    split at h
    · exact hK _ _ _ _ (ga_ncond_inv h).2
    · cases h
  case pop =>
    simp only [ga_step] at h
    split at h
    · exact hK _ _ _ _ (ga_ncond_inv h).2
    · cases h
  case ifCond q off =>
    simp only [ga_step] at h
    split at h
    · have h2 := (ga_cond_inv h).2
      unfold ga_br at h2
      split at h2 <;> split at h2 <;> exact hK _ _ _ _ h2
    · cases h
  case if_icmp q off =>
    simp only [ga_step] at h
    split at h
    · have h2 := (ga_cond_inv h).2
      unfold ga_br at h2
      split at h2 <;> split at h2 <;> exact hK _ _ _ _ h2
    · cases h
  case if_acmp q off =>
    simp only [ga_step] at h
    split at h
    · have h2 := (ga_cond_inv h).2
      split at h2 <;> split at h2 <;> exact hK _ _ _ _ h2
    · cases h
  case tableswitch q lo hi offs =>
    simp only [ga_step] at h
    split at h
    · obtain ⟨tg, h3, -⟩ := ga_sw_tab offs.toList lo (ga_cond_inv h).2
      exact hK _ _ _ _ h3
    · cases h
  case lookupswitch q ps =>
    simp only [ga_step] at h
    split at h
    · obtain ⟨tg, h3, -⟩ := ga_sw_lkp ps.toList (ga_cond_inv h).2
      exact hK _ _ _ _ h3
    · cases h
  case getfield idx =>
    simp only [ga_step] at h
    unfold ga_fget at h
    split at h
    · obtain ⟨n, h3, h4⟩ := ga_obj_K (ga_cond_inv h).2
      exact hK _ _ _ _ (ga_fvK (Y := default) h4)
    · cases h
  case putfield idx =>
    simp only [ga_step] at h
    unfold ga_fput at h
    split at h
    · obtain ⟨h1, h2⟩ := ga_cond_inv h
      have g2 := ga_blt (Bool.and_eq_true_iff.mp (Bool.and_eq_true_iff.mp h1).1).2
      obtain ⟨n, h3, h4⟩ := ga_obj_K h2
      cases hb : (d == 1) with
      | true =>
        rw [hb] at h4
        have := hK _ _ _ _ (ga_01_inv h4).2
        rw [ga_al_up (hput idx rfl g2)] at this
        exact this
      | false =>
        rw [hb] at h4
        have := hK _ _ _ _ h4
        rw [ga_al_up (hput idx rfl g2)] at this
        exact this
    · cases h
  case arraylength =>
    simp only [ga_step] at h
    split at h
    · obtain ⟨n, h3, h4⟩ := ga_obj_K (ga_cond_inv h).2
      exact hK _ _ _ _ h4
    · cases h
  case iaload =>
    simp only [ga_step] at h
    obtain ⟨i, x, n, ta, rest, rfl, he, h3, i0, i1, h5⟩ := ga_aload_inv (Y := (default, default, G, default, default, default)) h
    exact hK _ _ _ _ h5
  case baload =>
    simp only [ga_step] at h
    obtain ⟨i, x, n, ta, rest, rfl, he, h3, i0, i1, h5⟩ := ga_aload_inv (Y := (default, default, G, default, default, default)) h
    exact hK _ _ _ _ h5
  case laload =>
    simp only [ga_step] at h
    obtain ⟨i, x, n, ta, rest, rfl, he, h3, i0, i1, h5⟩ := ga_aload_inv (Y := (default, default, G, default, default, default)) h
    exact hK _ _ _ _ h5
  case aaload =>
    simp only [ga_step] at h
    obtain ⟨i, x, n, ta, rest, rfl, he, h3, i0, i1, h5⟩ := ga_aload_inv (Y := (default, default, G, default, default, default)) h
    exact hK _ _ _ _ h5
  case iastore =>
    simp only [ga_step] at h
    obtain ⟨v, i, x, n, w, ta, rest, rfl, he, h3, i0, i1, ht, hw, h5⟩ := ga_astore_inv (Y := (default, default, G, default, default, default)) h
    have := hK _ _ _ _ h5
    rw [ga_al_up (harr ta (by dsimp only at he; omega) ht)] at this
    exact this
  case bastore =>
    simp only [ga_step] at h
    obtain ⟨v, i, x, n, w, ta, rest, rfl, he, h3, i0, i1, ht, hw, h5⟩ := ga_astore_inv (Y := (default, default, G, default, default, default)) h
    have := hK _ _ _ _ h5
    rw [ga_al_up (harr ta (by dsimp only at he; omega) ht)] at this
    exact this
  case lastore =>
    simp only [ga_step] at h
    obtain ⟨v, i, x, n, w, ta, rest, rfl, he, h3, i0, i1, ht, hw, h5⟩ := ga_astore_inv (Y := (default, default, G, default, default, default)) h
    have := hK _ _ _ _ h5
    rw [ga_al_up (harr ta (by dsimp only at he; omega) ht)] at this
    exact this
  case aastore =>
    simp only [ga_step] at h
    obtain ⟨v, i, x, n, w, ta, rest, rfl, he, h3, i0, i1, ht, hw, h5⟩ := ga_astore_inv (Y := (default, default, G, default, default, default)) h
    have := hK _ _ _ _ h5
    rw [ga_al_up (harr ta (by dsimp only at he; omega) ht)] at this
    exact this
  case invokestatic idx =>
    simp only [ga_step] at h
    unfold ga_invoke at h
    obtain ⟨vs, rest, rfl, hlen, h1⟩ := ga_spl_inv b st [] h
    have h2 := (ga_cond_inv h1).2
    have h3 := (ga_recv_inv (Y := (default, default, G, default, default, default)) h2).2
    cases hq : call a (vs.reverse ++ []) σ with
    | none => rw [hq] at h3; cases h3
    | some q =>
      rw [hq, Option.bind_some] at h3
      refine Nat.le_trans (hcall _ _ _ _ hq) ?_
      cases hb : (d == -1) with
      | true => rw [hb] at h3; exact hK _ _ _ _ h3
      | false => rw [hb] at h3; exact hK _ _ _ _ h3
  case invokevirtual idx =>
    simp only [ga_step] at h
    unfold ga_invoke at h
    obtain ⟨vs, rest, rfl, hlen, h1⟩ := ga_spl_inv b st [] h
    have h2 := (ga_cond_inv h1).2
    have h3 := (ga_recv_inv (Y := (default, default, G, default, default, default)) h2).2
    cases hq : call a (vs.reverse ++ []) σ with
    | none => rw [hq] at h3; cases h3
    | some q =>
      rw [hq, Option.bind_some] at h3
      refine Nat.le_trans (hcall _ _ _ _ hq) ?_
      cases hb : (d == -1) with
      | true => rw [hb] at h3; exact hK _ _ _ _ h3
      | false => rw [hb] at h3; exact hK _ _ _ _ h3
  case ireturn =>
    simp only [ga_step] at h
    split at h
    · have h2 := (ga_cond_inv h).2
      cases hb : Nat.beq rk 0 with
      | true => rw [hb] at h2; rw [← hR _ h2]; exact Nat.le_refl _
      | false =>
        rw [hb] at h2
        rw [← hR _ (ga_01_inv (ga_cond_inv h2).2).2]
        exact Nat.le_refl _
    · cases h
  case lreturn =>
    simp only [ga_step] at h
    split at h
    · rw [← hR _ (ga_cond_inv h).2]; exact Nat.le_refl _
    · cases h
  case areturn =>
    simp only [ga_step] at h
    split at h
    · rw [← hR _ (ga_cond_inv h).2]; exact Nat.le_refl _
    · cases h
  case return_ =>
    simp only [ga_step] at h
    split at h
    · rw [← hR _ (ga_cond_inv h).2]; exact Nat.le_refl _
    · cases h
  all_goals (simp [ga_step] at h)
theorem ga_it_mono' {G : ga_G} {call : Nat → List ga_V → ga_S → Option ga_R} {M : ga_M} {r : ga_R} (hcall : ∀ j vs σ q, call j vs σ = some q → ga_al σ ≤ ga_al q.2) (harr : ∀ c : Nat, (G.2.2 c).1 < 5 → (G.2.2 c).2.2.1 < 999 → (G.2.2 c).2.2.2.1 ≠ 330) (hput : ∀ pc i nx a b c e d, M.1 pc = (i, nx, a, b, c, e, d) → ∀ idx, i = .putfield idx → c < 999 → e ≠ 330) :
    ∀ (n pc : Nat) (L : ga_L) (st : List ga_V) (σ : ga_S), ga_it (ga_nx G call M) n (pc, L, st, σ) = some r → ga_al σ ≤ ga_al r.2 := by
  intro n
  induction n with
  | zero => intro pc L st σ h; simp [ga_it] at h
  | succ n ih =>
    intro pc L st σ h
    rw [ga_it_succ] at h
    unfold ga_nx ga_one at h
    rw [show (pc, L, st, σ).1 = pc from rfl, show (pc, L, st, σ).2.1 = L from rfl, show (pc, L, st, σ).2.2.1 = st from rfl, show (pc, L, st, σ).2.2.2 = σ from rfl] at h
    cases hq : M.1 pc with
    | mk i q =>
      obtain ⟨nx, a, b, c, e, d⟩ := q
      rw [hq] at h
      dsimp only at h
      rw [ga_step_b] at h
      exact ga_step_mono (fun pc' L' st' σ' hk => ih pc' (ga_km M pc' L') st' σ' hk) (fun q hk => Option.some.inj hk) hcall harr (hput pc i nx a b c e d hq) h
/-! contracts -/
def ga_argL (i : Nat) (vs : List ga_V) : ga_L := match vs with
  | [] => []
  | (t, v) :: r => (i, t, v) :: ga_argL (bif Nat.beq t 1 then i + 2 else i + 1) r
theorem ga_args_eq {ρ : Type} : ∀ (vs : List ga_V) (i : Nat) (k : ga_L → Option ρ), ga_args i vs k = k (ga_argL i vs)
  | [], i, k => rfl
  | (t, v) :: r, i, k => by simp only [ga_args, ga_argL, ga_args_eq r]
theorem ga_sl_len {Y : ga_Y} {H : Heap} : ∀ (vs : List ga_V) (sv : List Value), ga_SR Y H vs sv → (lg_sl sv).length = ga_cats vs
  | [], sv, h => by rw [ga_SR_n h]; rfl
  | v :: r, sv, h => by
    obtain ⟨w, rv, rfl, h1, h2⟩ := ga_SR_c h
    have ih := ga_sl_len r rv h2
    have hc := ga_vr_cat h1
    unfold lg_sl at ih ⊢
    rw [List.flatMap_cons, List.length_append, ih, ga_cats]
    congr 1
    rw [← hc]
    rcases lv_cat w with e | e
    · rw [e]; rfl
    · rw [e]; rfl
theorem ga_argL_mem {Y : ga_Y} {H : Heap} : ∀ (vs : List ga_V) (sv : List Value) (i : Nat), ga_SR Y H vs sv → ∀ q ∈ ga_argL i vs, ∃ w, (q.1, w) ∈ lv_args i sv ∧ ga_vr Y H q.2 w
  | [], sv, i, h, q, hq => by simp [ga_argL] at hq
  | (t, v) :: r, sv, i, h, q, hq => by
    obtain ⟨w, rv, rfl, h1, h2⟩ := ga_SR_c h
    simp only [ga_argL] at hq
    simp only [lv_args]
    rcases List.mem_cons.mp hq with rfl | hq
    · exact ⟨w, List.mem_cons_self, h1⟩
    · have hc := ga_vr_cat h1
      have e : (if w.category = 2 then i + 2 else i + 1) = (bif Nat.beq t 1 then i + 2 else i + 1) := by
        rw [hc]
        unfold ga_cat
        dsimp only
        cases Nat.beq t 1 <;> rfl
      rw [e]
      obtain ⟨w', a, b⟩ := ga_argL_mem r rv _ h2 q hq
      exact ⟨w', List.mem_cons_of_mem _ a, b⟩
def ga_rm (d k : Nat) : Room := { frames := d + 20, cells := 2 * k, slots := 32 * k, locals := 80 * d + 2000 }
/-- a method's start: Sx what else holds of the state -/
def ga_Pc (Y : ga_Y) (Sx : State → Prop) (sz : Nat) (vs : List ga_V) (σ : ga_S) : Array Value → State → Prop := fun av U =>
  ∃ svs : List Value, av = svs.toArray ∧ U.heap.size = sz ∧ ga_SR Y U.heap vs svs ∧ ga_Hd Y σ U.heap ∧ ga_KN Y U ∧ (∀ w ∈ ga_nw, va_Nw w U) ∧ Sx U
/-- what Sx must be -/
def ga_SX (Y : ga_Y) (Sx : State → Prop) : Prop := (∀ s U : State, Sx s → U.vm = s.vm → U.heap = s.heap → Sx U) ∧ ∀ (s U : State), Sx s → s.WarmedH U.vm → ga_keep Y s.heap U.heap → Sx U
/-- the methods: name, code, locals, answer -/
abbrev ga_MI : Type := Nat → MethodName × ByteArray × Nat × Option FieldType
def ga_rko (rk : Nat) (ret : Option FieldType) : Prop := (rk = 0 → ret = some .int) ∧ (rk = 1 → ret = some .long) ∧ (rk = 2 → ret = some .boolean) ∧ (rk = 4 → ret = none) ∧ (5 ≤ rk → ∃ n, ret = some (.object n))
/-- what a method of the table must be -/
def ga_MO (Y : ga_Y) (MI : ga_MI) (ml : String → Nat → Bool → Nat → Nat → Nat → Int → Prop) (gs lc : String → Nat → Nat → Int → Prop) (M : ga_M) (j : Nat) : Prop :=
  plainName (MI j).1.cls = true ∧ Cond.code (MI j).1 (MI j).2.1 (MI j).2.2.1 (MI j).2.2.2 ∈ ga_gw ∧ Cond.initialized (MI j).1.cls ∈ ga_gw ∧ ((MI j).1.cls ≠ "java/lang/invoke/MethodHandle" ∧ (MI j).1.cls ≠ "java/lang/invoke/VarHandle") ∧ (MI j).2.2.1 = M.2.2.2 ∧ M.2.2.2 ≤ 60 ∧ ga_rko M.2.2.1 (MI j).2.2.2 ∧
  ∀ pc i nx a b c e d, M.1 pc = (i, nx, a, b, c, e, d) → i = .nop ∨ ga_crt Y M.2.2.2 (MI j).1.cls (ml (MI j).1.cls) (gs (MI j).1.cls) (lc (MI j).1.cls) (MI j).2.1 i pc nx a b c e d
def ga_ws (MI : ga_MI) (j : Nat) : List Cond := Cond.code (MI j).1 (MI j).2.1 (MI j).2.2.1 (MI j).2.2.2 :: ga_gw
/-- a method's contract -/
def ga_CT (Y : ga_Y) (Sx : State → Prop) (MI : ga_MI) (l : Launch) (j rk : Nat) (vs : List ga_V) (σ : ga_S) (r : ga_R) (d : Nat) : Prop :=
  ga_al σ ≤ ga_al r.2 ∧ ∀ sz : Nat, Met l (MI j).1 (ga_ws MI j) (ga_rm d (ga_al r.2 - ga_al σ)) (ga_Pc Y Sx sz vs σ) (ga_Qc Y rk r) (2 * (ga_al r.2 - ga_al σ)) (32 * (ga_al r.2 - ga_al σ)) (ga_Ar Y sz)
theorem ga_gw_good {w : Cond} (h : w ∈ ga_gw) : (w.onTables && w.keeps) = true ∨ ∃ ty, w = .arrayClass ty := by
  unfold ga_gw at h
  have := (List.mem_filter.mp h).2
  unfold ga_gd at this
  rcases Bool.or_eq_true_iff.mp this with q | q
  · exact Or.inl q
  · right
    split at q
    · exact ⟨_, rfl⟩
    · cases q
theorem ga_nw_onT {w : Cond} (h : w ∈ ga_nw) : w.onTables = true := by
  unfold ga_nw at h
  have := (List.mem_filter.mp h).2
  unfold ga_isN at this
  split at this
  · rfl
  · rfl
  · cases this
theorem ga_nw_warm {w : Cond} (h : w ∈ ga_nw) {s U : State} (hW : s.WarmedH U.vm) (hs : va_Nw w s) : va_Nw w U := by
  unfold ga_nw at h
  have := (List.mem_filter.mp h).2
  unfold ga_isN at this
  split at this
  · exact va_Nw.warmF hW hs
  · exact va_Nw.warmM hW hs
  · cases this
/-- what a level's calls give, at an activation -/
def ga_CRs (Y : ga_Y) (Sx : State → Prop) (ml : String → Nat → Bool → Nat → Nat → Nat → Int → Prop) (l : Launch) (d : Nat) (call : Nat → List ga_V → ga_S → Option ga_R) : Prop :=
  ∀ (X : ga_CX) (cc : ByteArray) (own : String) (rk : Nat) (r : ga_R), X.2.1 = l → ga_ok Y X cc own rk r → (d + 1 + 20 ≤ X.2.2.2.1.frames ∧ 80 * (d + 1) + 2000 ≤ X.2.2.2.1.locals) → (∀ w ∈ ga_nw, va_Nw w (ga_xs X)) → Sx (ga_xs X) → ga_CR Y X cc (ml own) call
set_option maxHeartbeats 2000000 in
theorem ga_method {Y : ga_Y} {Sx : State → Prop} {MI : ga_MI} {ml : String → Nat → Bool → Nat → Nat → Nat → Int → Prop} {gs lc : String → Nat → Nat → Int → Prop} {l : Launch} (hT : ga_TB Y) (hSS : ga_SS Y) (hSp : ∀ (X : ga_CX) (cc : ByteArray) (own : String) (rk : Nat) (r : ga_R), ga_ok Y X cc own rk r → Sx (ga_xs X) → ga_SP Y X cc (gs own) (lc own))
    {tab : Nat → ga_M} {prim : Nat → List ga_V → ga_S → Option ga_R} {d j : Nat} (hj : j < 377) (hmono : ∀ j vs σ q, ga_run Y.2.2.1 tab prim d j vs σ = some q → ga_al σ ≤ ga_al q.2) (hCd : ga_CRs Y Sx ml l d (ga_run Y.2.2.1 tab prim d)) (hMO : ga_MO Y MI ml gs lc (tab j) j) {vs : List ga_V} {σ : ga_S} {r : ga_R} (h : ga_run Y.2.2.1 tab prim (d + 1) j vs σ = some r) : ga_CT Y Sx MI l j (tab j).2.2.1 vs σ r (d + 1) := by
  rw [ga_run] at h
  rw [show Nat.blt j 377 = true from Nat.ble_eq_true_of_le hj] at h
  obtain ⟨hcat, h⟩ := ga_cond_inv (show (bif _ then _ else none) = some r from h)
  have hcat := Nat.le_of_ble_eq_true hcat
  rw [ga_args_eq] at h
  unfold ga_go at h
  obtain ⟨n, hn⟩ := (ga_lp_iff _ _ _).mp h
  obtain ⟨h1, h2, h3, h4, h5, h6, h7, h8⟩ := hMO
  have mono : ga_al σ ≤ ga_al r.2 := by
    refine ga_it_mono' hmono hT.2.2.2.2.2 (fun pc i nx a b c e d hq idx hi hc9 => ?_) n 0 _ [] σ hn
    subst hi
    rcases h8 pc _ nx a b c e d hq with hz | hz
    · cases hz
    · obtain ⟨-, -, hG, C, T, N, hcl, hbN, -⟩ := hz
      obtain ⟨inv, hi1, -⟩ := hT.2.1
      have := (hi1 a _ b hcl hbN (by rw [hG]; exact hc9)).2
      rw [hG] at this
      exact this
  refine ⟨mono, fun sz => ?_⟩
  refine Met.ofW (cc := (MI j).2.1) (maxL := (MI j).2.2.1) (ret := (MI j).2.2.2) h1 rfl ?_
  intro p e s m args below meth c s₁ B hml hv
  obtain ⟨svs, rfl, hsz, hSR, hHd, hKN, hNw, hSx⟩ := hv
  have hts0 := atoms_spec (ws := ga_ws MI j) B.pre
  have hts : ∀ w ∈ ga_tb, w.before svs.toArray s = true := by
    intro w hw
    rcases List.mem_append.mp hw with hw | hw
    · exact hts0 w (List.mem_cons_of_mem _ hw)
    · exact va_Nw.use (ga_nw_onT hw) (hNw w hw)
  have hown : s.vm.findClass (MI j).1.cls = some m.cls := findClass_of_methodNamed B.named
  subst hsz
  have hX : ga_ok Y (p, l, e, (headSpec (ga_ws MI j) (ga_rm (d + 1) (ga_al r.2 - ga_al σ))).room, s, m, svs.toArray, below, meth, c, MQ below (ga_Qc Y (tab j).2.2.1 r) svs.toArray s (2 * (ga_al r.2 - ga_al σ)) (32 * (ga_al r.2 - ga_al σ)) (ga_Ar Y s.heap.size), (MI j).2.2.1, ga_al σ) (MI j).2.1 (MI j).1.cls (tab j).2.2.1 r := by
    refine ⟨B.exec, B.bytes, hml, hown, hts, B.notSynchronized, hKN, rfl, ⟨Nat.le_refl _, Nat.le_refl _⟩, ?_⟩
    obtain ⟨k0, k1, k2, k4, k5⟩ := h7
    rw [B.returns]
    exact ⟨k0, k1, k2, k4, k5⟩
  have hC := hCd _ _ _ _ _ rfl hX ⟨Nat.le_refl _, Nat.le_refl _⟩ hNw hSx
  have hP := hSp _ _ _ _ _ hX hSx
  have hF := (ga_it_ok hT hSS hX hC hP (by rw [show ga_xn _ = (MI j).2.2.1 from rfl, h5]; exact h8) n 0 _ [] σ hn).2
  have hF := ga_F_km hF
  rw [lg_entry_eq]
  have hlen : (lg_sl svs).length ≤ (MI j).2.2.1 := by rw [ga_sl_len _ _ hSR, h5]; exact hcat
  have hl := lv_entry svs hlen
  have hW := hF s.heap _ [] [] hHd ⟨hl.1, hl.2.1, fun q hq => by
    obtain ⟨w, a, b⟩ := ga_argL_mem vs svs 0 hSR q hq
    exact ⟨w, hl.2.2 _ a, b⟩⟩ trivial va_S.rf (Nat.le_refl _)
  rw [show ga_al σ - ga_xa _ = 0 from Nat.sub_self _] at hW
  exact hW

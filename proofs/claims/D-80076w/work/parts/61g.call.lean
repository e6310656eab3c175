/-! a method of the table is called from any frame: invokevirtual -/
section
variable {p : Program} {l : Launch} {e : Env} {R : Room} {s : State} {m : MethodId} {args : Array Value} {below : List Frame} {meth : Method} {c : Code} {H : Heap} {locs : List Loc} {cells slots : Nat} {Q : State → Prop}
theorem gk_RW {Y : ga_Y} {pc rk mc ms : Nat} {ls : Array Slot} {st0 rest : List Value} {a : Array Value} {q : ga_R} {A : Nat → Prop} {H0 : Heap} (hr : va_Run p l e R s m args below meth c H locs cells slots mc ms (F0 m pc ls st0) rest (ga_Qc Y rk q a) (ga_Ar Y H.size)) (hS : va_S A H0 H locs) (hA : ∀ x, ga_isO Y x → A x) (hA2 : ∀ x, H0.size ≤ x → A x)
    (kk : ∀ (H1 : Heap) (locs1 : List Loc) (rv : List Value), ga_Hd Y q.2 H1 → ga_keep Y H H1 → (if rk = 4 then rv = [] else ∃ w, rv = [w] ∧ ga_vr Y H1 (ga_rtag rk, q.1) w) → va_S A H0 H1 locs1 → W p l e R s m args below meth c H1 locs1 (cells + mc) (slots + ms) Q (F0 m (pc + 3) ls (rv ++ rest))) : W p l e R s m args below meth c H locs cells slots Q (F0 m pc ls st0) := by
  intro T hT X
  obtain ⟨v, st₀, t, T', L, h0, X', hL, e1, e2, ⟨⟨w, hv, hw⟩, hHd, hkp⟩, st⟩ := hr T hT X
  cases hv
  rw [h0] at hkp
  rw [← e1] at hHd hkp hw
  obtain ⟨t2, a1, b1⟩ := kk T'.heap (locs ++ L) v.toList hHd hkp (by
      by_cases e4 : rk = 4
      · rw [if_pos e4] at hw ⊢
        rw [hw]; rfl
      · rw [if_neg e4] at hw ⊢
        obtain ⟨w', rfl, hw'⟩ := hw
        exact ⟨w', rfl, hw'⟩)
    ⟨Nat.le_trans hS.1 hkp.1, fun x h1 h2 => by
      rw [hkp.2 x (Nat.lt_of_lt_of_le h1 hS.1) (fun z => h2 (hA x z))]
      exact hS.2.1 x h1 h2, fun x hx => by
      rcases List.mem_append.mp hx with h | h
      · exact hS.2.2 x h
      · rcases hL x h with z | z
        · exact hA _ z
        · exact hA2 _ (Nat.le_trans hS.1 z)⟩ T' rfl X'
  exact ⟨t2, st t2 a1, b1⟩
theorem gk_amV {E : ga_E} {cnt : Nat → Nat} {U0 : State} {D9 : va_G} {d j idx nL pc : Nat} {v : ga_V} {vs : List ga_V} {σ : ga_S} {q : ga_R} {cc : ByteArray} {own : String} {ls : Array Slot} {b : Nat} {As rest : List Value} {A : Nat → Prop} {H0 : Heap}
    (S : CallFix p m c cc nL s args ga_tb own) (hin : ∀ c n c' n' : Nat, n < cnt c → n' < cnt c' → E.1 c n = E.1 c' n' → c = c' ∧ n = n') (hcnt : ∀ c, 179 ≤ c → cnt c = 0) (h8 : cnt 8 = 64) (hj : j < 377) (hrun : ga_run am_G am_tab am_prim d j (v :: vs) σ = some q)
    (hKN : ga_KN (am_YS E cnt U0) s) (hNw : ∀ w ∈ ga_nw, va_Nw w s) (hSx : ∀ U : State, U.heap = H → s.WarmedH U.vm → am_Sx E cnt U0 D9 U) (hHd : ga_Hd (am_YS E cnt U0) σ H) (hSR : ga_SR (am_YS E cnt U0) H (v :: vs) (.ref b :: As)) (hcell : ∃ cell : Cell, H[b]? = some cell ∧ cell.vm.isStatics = false ∧ s.vm.findClass (am_mi j).1.cls = some cell.cls)
    (hl : Cond.methodLink own idx (am_mi j).1 ∈ ga_gw) (hinm : Cond.instanceMethod (am_mi j).1 ∈ ga_gw) (hsel : Cond.selects (am_mi j).1.cls (am_mi j).1 (am_mi j).1 ∈ ga_gw) (hdesc : (parseMethodDescriptor (am_mi j).1.desc).map (fun d => d.parameters.length) = some As.length) (hls : ls.size = nL) (hcat : (rest.map fun v => v.category).sum ≤ 8) (hd : decode cc pc = .ok (.invokevirtual idx, 3))
    (hR : d + 21 ≤ R.frames ∧ 80 * d + 2100 ≤ R.locals) (hf : cells + 2 * (ga_al q.2 - ga_al σ) ≤ R.cells ∧ slots + 32 * (ga_al q.2 - ga_al σ) ≤ R.slots) (hS : va_S A H0 H locs) (hA : ∀ x, am_isO E cnt x → A x) (hA2 : ∀ x, H0.size ≤ x → A x)
    (kk : ∀ (H1 : Heap) (locs1 : List Loc) (rv : List Value), ga_Hd (am_YS E cnt U0) q.2 H1 → ga_keep (am_YS E cnt U0) H H1 → (if (am_tab j).2.2.1 = 4 then rv = [] else ∃ w, rv = [w] ∧ ga_vr (am_YS E cnt U0) H1 (ga_rtag (am_tab j).2.2.1, q.1) w) → va_S A H0 H1 locs1 → W p l e R s m args below meth c H1 locs1 (cells + 2 * (ga_al q.2 - ga_al σ)) (slots + 32 * (ga_al q.2 - ga_al σ)) Q (F0 m (pc + 3) ls (rv ++ rest))) :
    W p l e R s m args below meth c H locs cells slots Q (F0 m pc ls (As.reverse ++ .ref b :: rest)) := by
  have S' := S
  obtain ⟨hx, hb, hml, hown, hts⟩ := S'
  obtain ⟨h1, h2, h3, h4, h5, h6, h7, h9⟩ := am_MO (E := E) (cnt := cnt) (SS := am_SSd (am_isO E cnt) U0) j hj
  have hCT := am_CT (E := E) (cnt := cnt) (U0 := U0) (D := D9) (l := l) hin hcnt h8 d j (v :: vs) σ q hj hrun
  have hM := hCT.2 H.size
  have hws : ∀ w ∈ ga_ws am_mi j, w ∈ ga_tb ∧ ((w.onTables && w.keeps) = true ∨ ∃ ty, w = .arrayClass ty) := by
    intro w hw
    rcases List.mem_cons.mp hw with rfl | hw
    · exact ⟨ga_in_tb h2, ga_gw_good h2⟩
    · exact ⟨ga_in_tb hw, ga_gw_good hw⟩
  have hpc : ∀ U : State, U.heap = H → s.WarmedH U.vm → ga_Pc (am_YS E cnt U0) (am_Sx E cnt U0 D9) H.size (v :: vs) σ (Value.ref b :: As).toArray U := by
    intro U hU hW
    exact ⟨.ref b :: As, rfl, by rw [hU], by rw [hU]; exact hSR, by rw [hU]; exact hHd, ga_KN.moved hW.alike hKN, fun w hw => ga_nw_warm hw hW (hNw w hw), hSx U hU hW⟩
  have hfr : (ga_rm d (ga_al q.2 - ga_al σ)).frames + 1 ≤ R.frames ∧ 8 + ((am_mi j).2.2.1 + 11) + (ga_rm d (ga_al q.2 - ga_al σ)).locals ≤ R.locals := by
    rw [h5]
    show d + 20 + 1 ≤ _ ∧ 8 + ((am_tab j).2.2.2 + 11) + (80 * d + 2000) ≤ _
    omega
  have hsig : ∀ sig, parseMethodDescriptor (am_mi j).1.desc = some sig → As.length = sig.parameters.length := fun sig h => by
    rw [h] at hdesc
    exact (Option.some.inj hdesc).symm
  exact gk_RW (va_runV (Ts := ga_tb) S hM ⟨⟨rfl, rfl, hfr.1, hfr.2, pay_in hts hws, List.mem_cons_self, hts _ (ga_in_tb h2), hts _ (ga_in_tb h3), h4, hsig, hts _ (ga_in_tb hl)⟩, hts _ (ga_in_tb hinm), hts _ (ga_in_tb hsel)⟩ ⟨ga_Pc_blind am_SX, hcell, hpc⟩ rfl rfl hls rfl (lv_room hcat) hd hf) hS hA hA2 kk
end

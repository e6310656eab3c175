/-! AM is sound, 6: calls of the methods of the table, and all levels -/
section
variable {p : Program} {l : Launch} {e : Env} {R : Room} {s : State} {m : MethodId} {args : Array Value} {below : List Frame} {meth : Method} {c : Code} {H : Heap} {locs : List Loc} {Q : State → Prop}
theorem ga_RW {Y : ga_Y} {k D pc rk : Nat} {ls : Array Slot} {st0 rest : List Value} {a : Array Value} {q : ga_R} (hr : va_Run p l e R s m args below meth c H locs (2 * k) (32 * k) (2 * D) (32 * D) (F0 m pc ls st0) rest (ga_Qc Y rk q a) (ga_Ar Y H.size)) (hS : va_S (ga_Ar Y s.heap.size) s.heap H locs)
    (kk : ∀ (H1 : Heap) (locs1 : List Loc) (rv : List Value), ga_Hd Y q.2 H1 → ga_keep Y H H1 → (if rk = 4 then rv = [] else ∃ w, rv = [w] ∧ ga_vr Y H1 (ga_rtag rk, q.1) w) → va_S (ga_Ar Y s.heap.size) s.heap H1 locs1 → W p l e R s m args below meth c H1 locs1 (2 * (k + D)) (32 * (k + D)) Q (F0 m (pc + 3) ls (rv ++ rest))) : W p l e R s m args below meth c H locs (2 * k) (32 * k) Q (F0 m pc ls st0) := by
  intro T hT X
  obtain ⟨v, st₀, t, T', L, h0, X', hL, e1, e2, ⟨⟨w, hv, hw⟩, hHd, hkp⟩, st⟩ := hr T hT X
  cases hv
  rw [h0] at hkp
  rw [← e1] at hHd hkp hw
  rw [← Nat.mul_add, ← Nat.mul_add] at X'
  obtain ⟨t2, a1, b1⟩ := kk T'.heap (locs ++ L) v.toList hHd hkp (by
      by_cases e4 : rk = 4
      · rw [if_pos e4] at hw ⊢
        rw [hw]; rfl
      · rw [if_neg e4] at hw ⊢
        obtain ⟨w', rfl, hw'⟩ := hw
        exact ⟨w', rfl, hw'⟩)
    ⟨Nat.le_trans hS.1 hkp.1, fun q h1 h2 => by
      rw [hkp.2 q (Nat.lt_of_lt_of_le h1 hS.1) (fun z => h2 (Or.inl z))]
      exact hS.2.1 q h1 h2, fun q hq => by
      rcases List.mem_append.mp hq with h | h
      · exact hS.2.2 q h
      · rcases hL q h with z | z
        · exact Or.inl z
        · exact Or.inr (Nat.le_trans hS.1 z)⟩ T' rfl X'
  exact ⟨t2, st t2 a1, b1⟩
end
theorem ga_Pc_blind {Y : ga_Y} {Sx : State → Prop} (hSX : ga_SX Y Sx) {sz : Nat} {vs : List ga_V} {σ : ga_S} : FrameBlind (ga_Pc Y Sx sz vs σ) := by
  intro a U g mk hq
  obtain ⟨svs, h1, h2, h3, h4, h5, h6, h7⟩ := hq
  exact ⟨svs, h1, h2, h3, h4, ga_KN.moved (u := U) (U := U.calling g mk a) (Vm.Alike.refl U.vm) h5, fun w hw => va_Nw.same (ga_nw_onT hw) (u := U) (U := U.calling g mk a) rfl (h6 w hw), hSX.1 U (U.calling g mk a) h7 rfl rfl⟩
/-- a method of the table is linked -/
def ga_mlT (Y : ga_Y) (MI : ga_MI) (tab : Nat → ga_M) (own : String) (idx : Nat) (inst : Bool) (j na rc : Nat) (rt : Int) : Prop :=
  j < 377 ∧ (Cond.methodLink own idx (MI j).1 ∈ ga_gw ∨ ∃ host, Cond.methodLinkNest own idx (MI j).1 host ∈ ga_nw) ∧
  (parseMethodDescriptor (MI j).1.desc).map (fun d => d.parameters.length) = some (if inst = true then na - 1 else na) ∧
  (inst = true → 1 ≤ na ∧ Cond.instanceMethod (MI j).1 ∈ ga_gw ∧ Cond.selects (MI j).1.cls (MI j).1 (MI j).1 ∈ ga_gw ∧ rc ≠ 999 ∧ ∃ T N, Y.2.2.2.2.1[rc]? = some ((MI j).1.cls, T, N)) ∧ (inst = false → Cond.static (MI j).1 ∈ ga_gw) ∧
  (if rt = -1 then (tab j).2.2.1 = 4 else (tab j).2.2.1 ≠ 4 ∧ rt.toNat = ga_rtag (tab j).2.2.1)
theorem ga_SR_len {Y : ga_Y} {H : Heap} : ∀ (vs : List ga_V) (sv : List Value), ga_SR Y H vs sv → sv.length = vs.length
  | [], sv, h => by rw [ga_SR_n h]; rfl
  | v :: r, sv, h => by
    obtain ⟨w, rv, rfl, h1, h2⟩ := ga_SR_c h
    rw [List.length_cons, List.length_cons, ga_SR_len r rv h2]
theorem ga_in_tb {w : Cond} (h : w ∈ ga_gw) : w ∈ ga_tb := List.mem_append_left _ h
theorem ga_rmk {d F L m : Nat} (a1 : d + 1 + 20 ≤ F) (a2 : 80 * (d + 1) + 2000 ≤ L) (h6 : m ≤ 60) : d + 20 + 1 ≤ F ∧ 8 + (m + 11) + (80 * d + 2000) ≤ L := by omega
set_option maxHeartbeats 2000000 in
theorem ga_call_T {Y : ga_Y} {Sx : State → Prop} {MI : ga_MI} {tab : Nat → ga_M} {l : Launch} {d : Nat} {ml : String → Nat → Bool → Nat → Nat → Nat → Int → Prop} {gs lc : String → Nat → Nat → Int → Prop} (hSX : ga_SX Y Sx) (hMO : ∀ j, j < 377 → ga_MO Y MI ml gs lc (tab j) j) {X : ga_CX} {cc : ByteArray} {own : String} {rk : Nat} {r : ga_R} (hXl : X.2.1 = l) (hX : ga_ok Y X cc own rk r) (hroom : d + 1 + 20 ≤ X.2.2.2.1.frames ∧ 80 * (d + 1) + 2000 ≤ X.2.2.2.1.locals)
    (hNw : ∀ w ∈ ga_nw, va_Nw w (ga_xs X)) (hSx : Sx (ga_xs X)) {inst : Bool} {idx j na rc : Nat} {rt : Int} (hl : ga_mlT Y MI tab own idx inst j na rc rt) {vs : List ga_V} {σ : ga_S} {q : ga_R} (hCT : ga_CT Y Sx MI l j (tab j).2.2.1 vs σ q d) (hna : vs.length = na) (hrok : ga_rok Y inst rc vs)
    (pc : Nat) (H : Heap) (ls : Array Slot) (svs srest : List Value) (locs : List Loc) (k : Nat) (hls : ls.size = ga_xn X) (hHd : ga_Hd Y σ H) (hSR : ga_SR Y H vs svs) (hcat : (srest.map fun v => v.category).sum ≤ 8) (hZ : ga_xS Y X H locs)
    (hd : decode cc pc = .ok (if inst = true then .invokevirtual idx else .invokestatic idx, 3)) (hsp : 2 * (k + (ga_al q.2 - ga_al σ)) ≤ X.2.2.2.1.cells ∧ 32 * (k + (ga_al q.2 - ga_al σ)) ≤ X.2.2.2.1.slots)
    (kk : ∀ (H1 : Heap) (locs1 : List Loc) (rv : List Value), ga_Hd Y q.2 H1 → ga_keep Y H H1 → (if rt = -1 then rv = [] else ∃ w, rv = [w] ∧ ga_vr Y H1 (rt.toNat, q.1) w) → ga_xS Y X H1 locs1 → ga_W X H1 locs1 (k + (ga_al q.2 - ga_al σ)) (pc + 3) ls (rv ++ srest)) :
    ga_W X H locs k pc ls (svs.reverse ++ srest) := by
  obtain ⟨p, l', e, R, s, m, args, below, meth, cd, Q, nL, a0⟩ := X
  have hXl : l' = l := hXl
  subst hXl
  obtain ⟨hx, hb, hml, hown, hts, hlocks, hKN, hQ, hrm, hrs⟩ := hX
  obtain ⟨hj, hlink, hdesc, hI, hS0, hrt⟩ := hl
  obtain ⟨h1, h2, h3, h4, h5, h6, h7, h8⟩ := hMO j hj
  have hM := hCT.2 H.size
  have hws : ∀ w ∈ ga_ws MI j, w ∈ ga_tb ∧ ((w.onTables && w.keeps) = true ∨ ∃ ty, w = .arrayClass ty) := by
    intro w hw
    rcases List.mem_cons.mp hw with rfl | hw
    · exact ⟨ga_in_tb h2, ga_gw_good h2⟩
    · exact ⟨ga_in_tb hw, ga_gw_good hw⟩
  have hpc : ∀ U : State, U.heap = H → s.WarmedH U.vm → ga_Pc Y Sx H.size vs σ svs.toArray U := by
    intro U hU hW
    exact ⟨svs, rfl, by rw [hU], by rw [hU]; exact hSR, by rw [hU]; exact hHd, ga_KN.moved hW.alike hKN, fun w hw => ga_nw_warm hw hW (hNw w hw), hSX.2 s U hSx hW (by rw [hU]; exact ga_xS_keep hZ)⟩
  have hfr : (ga_rm d (ga_al q.2 - ga_al σ)).frames + 1 ≤ R.frames ∧ 8 + ((MI j).2.2.1 + 11) + (ga_rm d (ga_al q.2 - ga_al σ)).locals ≤ R.locals := by
    rw [h5]
    have a1 : d + 1 + 20 ≤ R.frames := hroom.1
    have a2 : 80 * (d + 1) + 2000 ≤ R.locals := hroom.2
    exact ga_rmk a1 a2 h6
  have hfin : ∀ (H1 : Heap) (locs1 : List Loc) (rv : List Value), ga_Hd Y q.2 H1 → ga_keep Y H H1 → (if (tab j).2.2.1 = 4 then rv = [] else ∃ w, rv = [w] ∧ ga_vr Y H1 (ga_rtag (tab j).2.2.1, q.1) w) → va_S (ga_Ar Y s.heap.size) s.heap H1 locs1 → W p l' e R s m args below meth cd H1 locs1 (2 * (k + (ga_al q.2 - ga_al σ))) (32 * (k + (ga_al q.2 - ga_al σ))) Q (F0 m (pc + 3) ls (rv ++ srest)) := by
    intro H1 locs1 rv g1 g2 g3 g4
    refine kk H1 locs1 rv g1 g2 ?_ g4
    by_cases er : rt = -1
    · rw [if_pos er] at hrt ⊢
      rw [if_pos hrt] at g3
      exact g3
    · rw [if_neg er] at hrt ⊢
      rw [if_neg hrt.1, ← hrt.2] at g3
      exact g3
  have hlenS : svs.length = na := by rw [ga_SR_len _ _ hSR]; exact hna
  have hsp2 : 2 * k + 2 * (ga_al q.2 - ga_al σ) ≤ R.cells ∧ 32 * k + 32 * (ga_al q.2 - ga_al σ) ≤ R.slots := by
    have a1 := hsp.1
    have a2 := hsp.2
    dsimp only at a1 a2
    omega
  have hcode : (Cond.code (MI j).1 (MI j).2.1 (MI j).2.2.1 (MI j).2.2.2).before args s = true := hts _ (ga_in_tb h2)
  have hini : (Cond.initialized (MI j).1.cls).before args s = true := hts _ (ga_in_tb h3)
  cases inst with
  | false =>
    have hst := hts _ (ga_in_tb (hS0 rfl))
    have hsig : ∀ sig, parseMethodDescriptor (MI j).1.desc = some sig → na = sig.parameters.length := by
      intro sig h
      rw [h] at hdesc
      exact (Option.some.inj hdesc).symm
    rcases hlink with hl | ⟨host, hl⟩
    · exact ga_RW (va_runS (Ts := ga_tb) ⟨hx, hb, hml, hown, hts⟩ hM ⟨⟨rfl, rfl, hfr.1, hfr.2, pay_in hts hws, List.mem_cons_self, hcode, hini, h4, hsig, hts _ (ga_in_tb hl)⟩, hst⟩ ⟨ga_Pc_blind hSX, hpc⟩ rfl hlenS hls rfl (lv_room hcat) hd hsp2) hZ hfin
    · exact ga_RW (va_runSN (Ts := ga_tb) ⟨hx, hb, hml, hown, hts⟩ hM ⟨⟨⟨rfl, rfl, hfr.1, hfr.2, pay_in hts hws, List.mem_cons_self⟩, hcode, hini, h4, hsig, hts _ (List.mem_append_right _ hl)⟩, hst, trivial⟩ ⟨ga_Pc_blind hSX, hpc⟩ rfl hlenS hls rfl (lv_room hcat) hd hsp2) hZ hfin
  | true =>
    obtain ⟨hn1, hin, hsel, hrc, T, N, hcl⟩ := hI rfl
    have hin := hts _ (ga_in_tb hin)
    have hsel := hts _ (ga_in_tb hsel)
    rcases hrok rfl with ⟨z, -⟩ | ⟨v, rest, rfl, hv⟩
    · exact absurd z hrc
    obtain ⟨w, As, rfl, hw, hAs⟩ := ga_SR_c hSR
    obtain ⟨n, hn, hnc, rfl⟩ : ∃ n : Nat, v = n ∧ n < Y.2.1 rc ∧ w = .ref (Y.1.1 rc n) := by
      obtain ⟨k1, k2, k3, k4⟩ := ga_vr_o hw
      refine ga_ob hw ?_
      rcases hv with hv | hv
      · exact Or.inl ⟨hv, k4 hv⟩
      · exact Or.inr ⟨hv, rfl⟩
    obtain ⟨⟨cellB, c1, c2, c3, -⟩, -⟩ := (hHd rc n hnc).1 _ hcl
    have hcell : ∃ cellB : Cell, H[Y.1.1 rc n]? = some cellB ∧ cellB.vm.isStatics = false ∧ s.vm.findClass (MI j).1.cls = some cellB.cls := ⟨cellB, c1, c3, by rw [c2]; exact (hKN.1.1 rc _ hcl).2.1⟩
    have hsig : ∀ sig, parseMethodDescriptor (MI j).1.desc = some sig → na - 1 = sig.parameters.length := by
      intro sig h
      rw [h] at hdesc
      exact (Option.some.inj hdesc).symm
    have hlA : As.length = na - 1 := by
      have : (Value.ref (Y.1.1 rc n) :: As).length = na := hlenS
      rw [List.length_cons] at this
      omega
    have hstk : (Value.ref (Y.1.1 rc n) :: As).reverse ++ srest = As.reverse ++ .ref (Y.1.1 rc n) :: srest := by simp
    rcases hlink with hl | ⟨host, hl⟩
    · exact ga_RW (va_runV (Ts := ga_tb) ⟨hx, hb, hml, hown, hts⟩ hM ⟨⟨rfl, rfl, hfr.1, hfr.2, pay_in hts hws, List.mem_cons_self, hcode, hini, h4, hsig, hts _ (ga_in_tb hl)⟩, hin, hsel⟩ ⟨ga_Pc_blind hSX, hcell, hpc⟩ rfl hlA hls hstk (lv_room hcat) hd hsp2) hZ hfin
    · exact ga_RW (va_runVN (Ts := ga_tb) ⟨hx, hb, hml, hown, hts⟩ hM ⟨⟨⟨rfl, rfl, hfr.1, hfr.2, pay_in hts hws, List.mem_cons_self⟩, hcode, hini, h4, hsig, hts _ (List.mem_append_right _ hl)⟩, hin, hsel⟩ ⟨ga_Pc_blind hSX, hcell, hpc⟩ rfl hlA hls hstk (lv_room hcat) hd hsp2) hZ hfin
/-- links: of the table's methods, and of the library's members -/
def ga_mlX (Y : ga_Y) (MI : ga_MI) (tab : Nat → ga_M) (mlP : String → Nat → Bool → Nat → Nat → Nat → Int → Prop) (own : String) (idx : Nat) (inst : Bool) (j na rc : Nat) (rt : Int) : Prop := ga_mlT Y MI tab own idx inst j na rc rt ∨ (1000 ≤ j ∧ mlP own idx inst j na rc rt)
theorem ga_levels {Y : ga_Y} {Sx : State → Prop} {MI : ga_MI} {tab : Nat → ga_M} {prim : Nat → List ga_V → ga_S → Option ga_R} {l : Launch} {mlP : String → Nat → Bool → Nat → Nat → Nat → Int → Prop} {gs lc : String → Nat → Nat → Int → Prop} (hT : ga_TB Y) (hSS : ga_SS Y) (hSX : ga_SX Y Sx) (hSp : ∀ (X : ga_CX) (cc : ByteArray) (own : String) (rk : Nat) (r : ga_R), ga_ok Y X cc own rk r → Sx (ga_xs X) → ga_SP Y X cc (gs own) (lc own))
    (hMO : ∀ j, j < 377 → ga_MO Y MI (ga_mlX Y MI tab mlP) gs lc (tab j) j) (hpm : ∀ j vs σ q, prim j vs σ = some q → ga_al σ ≤ ga_al q.2) (hprim : ga_CRs Y Sx mlP l 0 prim) : ∀ d : Nat, (∀ j vs σ q, ga_run Y.2.2.1 tab prim d j vs σ = some q → ga_al σ ≤ ga_al q.2) ∧ ga_CRs Y Sx (ga_mlX Y MI tab mlP) l d (ga_run Y.2.2.1 tab prim d) ∧ ∀ j vs σ q, j < 377 → ga_run Y.2.2.1 tab prim d j vs σ = some q → ga_CT Y Sx MI l j (tab j).2.2.1 vs σ q d := by
  intro d
  induction d with
  | zero => exact ⟨fun j vs σ q h => by simp [ga_run] at h, fun X cc own rk r _ _ _ _ _ inst idx j na rc rt _ vs σ q h => by simp [ga_run] at h, fun j vs σ q _ h => by simp [ga_run] at h⟩
  | succ d ih =>
    obtain ⟨ih1, ih2, ih3⟩ := ih
    have hct : ∀ j vs σ q, j < 377 → ga_run Y.2.2.1 tab prim (d + 1) j vs σ = some q → ga_CT Y Sx MI l j (tab j).2.2.1 vs σ q (d + 1) := fun j vs σ q hj h => ga_method hT hSS hSp hj ih1 ih2 (hMO j hj) h
    have hpr : ∀ j vs σ, 377 ≤ j → ga_run Y.2.2.1 tab prim (d + 1) j vs σ = prim j vs σ := by
      intro j vs σ hj
      rw [ga_run]
      have : Nat.blt j 377 = false := by
        cases e : Nat.blt j 377 with
        | false => rfl
        | true => have := ga_blt e; omega
      rw [this]
      rfl
    refine ⟨fun j vs σ q h => ?_, fun X cc own rk r hXl hX hroom hNw hSx inst idx j na rc rt hl vs σ q h hna hrok => ?_, hct⟩
    · by_cases hj : j < 377
      · exact (hct j vs σ q hj h).1
      · rw [hpr j vs σ (by omega)] at h
        exact hpm j vs σ q h
    · rcases hl with hl | ⟨hj, hl⟩
      · have hc := hct j vs σ q hl.1 h
        exact ⟨hc.1, fun pc H ls svs srest locs k a1 a2 a3 a4 a5 a6 a7 kk => ga_call_T (d := d + 1) hSX hMO hXl hX hroom hNw hSx hl hc hna hrok pc H ls svs srest locs k a1 a2 a3 a4 a5 a6 a7 kk⟩
      · rw [hpr j vs σ (by omega)] at h
        exact hprim X cc own rk r hXl hX ⟨by have := hroom.1; omega, by have := hroom.2; omega⟩ hNw hSx inst idx j na rc rt hl vs σ q h hna hrok

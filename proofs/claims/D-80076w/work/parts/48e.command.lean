/-! command(), on both sides -/
section
variable {σ τ : ga_S} {B : Int → Int} {N g : Int}
theorem MS_f (M : MS σ τ B N) {τ' : ga_S} {L : List Nat} (f : fr L τ τ') (h : wdM.all (fun F => !(L.contains F)) = true) : MS σ τ' B N := by
  have e1 : τ' fM_said = τ fM_said := fr_no f h (by decide)
  have e2 : τ' fM_saids = τ fM_saids := fr_no f h (by decide)
  unfold MS
  rw [e1, e2]; exact M
theorem PF_u (X : SX σ τ g) {c i j : Int} (hs : σ fW_commandSlots 0 c ≠ -1) (P : PF σ B N c i) (Q : PF σ B N c j) : i = j := by
  have R := X.2.2.1.1
  obtain ⟨_, _, k, m, p1, p2, p3, p4, p5, p6, p7, p8⟩ := P
  obtain ⟨_, _, k', m', q1, q2, q3, q4, q5, q6, q7, q8⟩ := Q
  have a := p8.1
  have b := q8.1
  rw [if_neg hs] at a b
  have em : m = m' := by omega
  rw [em] at p7
  have ek := R.2.2.2.2.2.1 k k' p1 q1 (by rw [p7, q7])
  rw [← p3, ← q3, ek]
theorem m_fit (X : SX σ τ g) (S : CS σ B N) (M : MS σ τ B N) {c : Int} (hc : 0 ≤ c ∧ c < σ fW_commands 0 0) {d : Nat} (hd : 2 ≤ d) : ∃ b τ', c_m_fitsCommand d τ c = some (b2i b, τ') ∧ fr [fM_saidNoun] τ τ' ∧ (σ fW_commandSlots 0 c = -1 → τ' fM_saidNoun 0 0 = -1 ∧ (b = true ↔ fitP σ B N c 0)) ∧ (0 ≤ σ fW_commandSlots 0 c → (b = true → PF σ B N c (τ' fM_saidNoun 0 0)) ∧ ∀ i, PF σ B N c i → b = true) := by
  obtain ⟨d, rfl⟩ : ∃ e, d = e + 1 := ⟨d - 1, by omega⟩
  obtain ⟨τ0, e0⟩ : ∃ x, x = ga_up τ fM_saidNoun 0 0 (-1) := ⟨_, rfl⟩
  have f0 : fr [fM_saidNoun] τ τ0 := by rw [e0]; exact fr_u (by decide)
  have X0 : SX σ τ0 g := SX_f X (fr_refl [] σ) (by decide +kernel) f0 (by decide +kernel)
  have M0 : MS σ τ0 B N := MS_f M f0 (by decide)
  have S2 := S.2.1
  have C := X0.2.2.2.2.2.2.1
  have R := X0.2.2.1.1
  have c20 := C.1.2.2
  have cw := C.2.2 c hc.1 hc.2
  have cwo := X.2.2.2.2.2.2.1.2.2 c hc.1 hc.2
  have n8 := cw.2.1.2
  obtain ⟨n, en⟩ : ∃ n, n = σ fW_commandWords 0 c := ⟨_, rfl⟩
  obtain ⟨slot, es⟩ : ∃ s, s = σ fW_commandSlots 0 c := ⟨_, rfl⟩
  have sl : -1 ≤ slot ∧ slot < n := by
    rcases cw.2.2.2.1 with z | z | z <;> omega
  have st : c_m_fitsCommand (d + 1) τ c = m_fitsCommand_25 d τ0 c n (N - n) 0 0 := by
    rw [e_m_fitsCommand, ck_ok _ (by omega), cwo.2.1.1, M.1, ← en, w32_ok (by omega), e0]
  have cwk : ∀ k, 0 ≤ k → k < n → cwR σ τ0 c k := fun k a b => cw.2.2.2.2 k a (by omega)
  by_cases s1 : slot = -1
  · obtain ⟨b, b1, b2⟩ := m_ftail S M0 (c := c) (n := n) (off := 0) (more := N - n) (by omega) (by omega) cwk (Int.le_refl _) d 0 (Int.le_refl _) (by omega) (by omega)
    refine ⟨b, τ0, by rw [st]; exact b1, f0, fun _ => ⟨by rw [e0, up_eq], ?_⟩, fun z => absurd z (by omega)⟩
    rw [b2]
    unfold fitP atW
    rw [← es, ← en, if_pos s1]
    constructor
    · rintro ⟨h1, h2⟩
      refine ⟨by omega, fun k k0 k1 _ => ?_⟩
      rw [if_neg (fun z => z.1 s1)]
      have := h2 k k0 k1
      rw [show k + 0 = k by omega] at this; exact this
    · rintro ⟨h1, h2⟩
      refine ⟨by omega, fun k k0 k1 => ?_⟩
      have := h2 k k0 k1 (by omega)
      rw [if_neg (fun z => z.1 s1)] at this
      rw [show k + 0 = k by omega]; exact this
  · have pk : ∀ {i}, PF σ B N c i → ∃ k m, live σ k ∧ σ fD_sorts 0 k = (if σ fW_commandKinds 0 c = -2 then 9 else 2) ∧ σ fD_numbers 0 k = i ∧ (1 ≤ m ∧ m ≤ 3) ∧ slot + m ≤ N ∧ ent σ k = jn (vWs σ B slot (slot + m)) ∧ m = 1 + (N - n) ∧ (σ fW_commandKinds 0 c = -2 ∨ isB (σ fW_parents 0) (σ fW_kindOf 0 i) (σ fW_commandKinds 0 c) = true) ∧ ∀ k, 0 ≤ k → k < n → k ≠ slot → vW σ B (atW slot m k) = cmL σ c k := by
      rintro i ⟨_, p0, k, m, p1, p2, p3, p4, p5, p6, p7, p8, p9⟩
      rw [← es, ← en] at p8
      rw [if_neg s1] at p8
      rw [← es] at p5 p7
      refine ⟨k, m, p1, p2, p3, p4, p5, p7, by omega, p0, fun k k0 k1 k2 => ?_⟩
      have := p9 k k0 (by omega) (by omega)
      rw [← es] at this; exact this
    have no : ∀ τ', m_fitsCommand_25 d τ0 c n (N - n) 0 0 = some (0, τ') → fr [fM_saidNoun] τ τ' → (∀ i, ¬ PF σ B N c i) → ∃ b τ', c_m_fitsCommand (d + 1) τ c = some (b2i b, τ') ∧ fr [fM_saidNoun] τ τ' ∧ (σ fW_commandSlots 0 c = -1 → τ' fM_saidNoun 0 0 = -1 ∧ (b = true ↔ fitP σ B N c 0)) ∧ (0 ≤ σ fW_commandSlots 0 c → (b = true → PF σ B N c (τ' fM_saidNoun 0 0)) ∧ ∀ i, PF σ B N c i → b = true) := fun τ' h f hn => ⟨false, τ', by rw [st, h]; rfl, f, fun z => absurd z (by omega), fun _ => ⟨fun z => (by cases z), fun i P => absurd P (hn i)⟩⟩
    rcases m_fhead S M0 (c := c) (n := n) (slot := slot) (more := N - n) (by omega) (by omega) es sl.2 cwk d 0 (Int.le_refl _) (by omega) with ⟨h1, h2⟩ | ⟨h1, h2⟩
    · obtain ⟨m, em⟩ : ∃ m, m = 1 + (N - n) := ⟨_, rfl⟩
      rcases m_fslot X0 S M0 hc en es (by omega) em (d := d) (by omega) with ⟨t1, t2, k, t3, t4, t5, t6, t7⟩ | ⟨t1, t2⟩
      · obtain ⟨τ1, e1⟩ : ∃ x, x = ga_up τ0 fM_saidNoun 0 0 (σ fD_numbers 0 k) := ⟨_, rfl⟩
        have f1 : fr [fM_saidNoun] τ0 τ1 := by rw [e1]; exact fr_u (by decide)
        have X1 : SX σ τ1 g := SX_f X0 (fr_refl [] σ) (by decide +kernel) f1 (by decide +kernel)
        have M1 : MS σ τ1 B N := MS_f M0 f1 (by decide)
        have cw1 := X1.2.2.2.2.2.2.1.2.2 c hc.1 hc.2
        obtain ⟨b, b1, b2⟩ := m_ftail S M1 (c := c) (n := n) (off := m - 1) (more := N - n) (by omega) (by omega) (fun k a b => cw1.2.2.2.2 k a (by omega)) (by omega) d (slot + 1) (by omega) (by omega) (by omega)
        have ni : τ1 fM_saidNoun 0 0 = σ fD_numbers 0 k := by rw [e1, up_eq]
        refine ⟨b, τ1, ?_, fr_trans f0 f1, fun z => absurd z (by omega), fun _ => ⟨fun hb => ?_, fun i P => ?_⟩⟩
        · rw [st, h2, t7, ← e1, show slot + m = slot + 1 + (m - 1) by omega]; exact b1
        · rw [ni]
          have rk := R.2.2.2.2.2.2.2 k t3
          have wd := (X0.2.2.1.2.1 k t3).1
          refine ⟨⟨rk.2.2.2.1, ?_⟩, t6, k, m, t3, t5, rfl, t1, by rw [← es]; exact t2, by rw [← es]; exact vWs_W S M0 (by omega) t2, by rw [← es]; exact t4, ?_, ?_⟩
          · by_cases z : σ fW_commandKinds 0 c = -2
            · rw [if_pos z] at t5 ⊢
              rw [t5] at wd; exact wd
            · rw [if_neg z] at t5 ⊢
              rw [t5] at wd; exact wd
          · rw [← es, if_neg s1]; omega
          · intro j j0 j1 j2
            rw [← es] at j2 ⊢
            unfold atW
            by_cases q : slot < j
            · rw [if_pos ⟨s1, q⟩]
              have := (b2.mp hb).2 j (by omega) (by omega)
              rw [show j + (m - 1) = j - 1 + m by omega] at this; exact this
            · rw [if_neg (fun z => q z.2)]
              exact (h1 j j0 (by omega)).2
        · obtain ⟨k', m', q1, q2, q3, q4, q5, q6, q7, q8, q9⟩ := pk P
          have mm : m' = m := by omega
          rw [mm] at q9
          refine b2.mpr ⟨by omega, fun j j0 j1 => ?_⟩
          have := q9 j (by omega) j1 (by omega)
          unfold atW at this
          rw [if_pos ⟨s1, by omega⟩, show j - 1 + m = j + (m - 1) by omega] at this
          exact this
      · refine no τ0 (h2.trans t2) f0 (fun i P => t1 ?_)
        obtain ⟨k', m', q1, q2, q3, q4, q5, q6, q7, q8, q9⟩ := pk P
        have mm : m' = m := by omega
        rw [mm] at q4 q5 q6
        exact ⟨q4, q5, k', q1, q6, q2, by rw [q3]; exact q8⟩
    · refine no τ0 h2 f0 (fun i P => h1 ?_)
      obtain ⟨k', m', q1, q2, q3, q4, q5, q6, q7, q8, q9⟩ := pk P
      intro j j0 j1
      refine ⟨by omega, ?_⟩
      have := q9 j j0 (by omega) (by omega)
      unfold atW at this
      rw [if_neg (fun z => by have := z.2; omega)] at this
      exact this
theorem fit_J (X : SX σ τ g) (S : CS σ B N) (M : MS σ τ B N) (eB : σ fX_tape 0 = B) (hb : ∀ i, -128 ≤ B i ∧ B i < 128) {c : Int} (hc : 0 ≤ c ∧ c < σ fW_commands 0 0) {d d' : Nat} (hd : 4 ≤ d) (hd' : 2 ≤ d') : ∃ b o τ', c_m_fitsCommand d' τ c = some (b2i b, τ') ∧ fr [fM_saidNoun] τ τ' ∧ (b = true → τ' fM_saidNoun 0 0 = o) ∧ ((σ fW_commandSlots 0 c = -1 ∧ o = -1 ∧ c_x_fits d σ c 0 = some (b2i b, σ)) ∨ (σ fW_commandSlots 0 c ≠ -1 ∧ c_x_slot d σ c = some (o, σ) ∧ (b = true ↔ o ≠ -1))) := by
  obtain ⟨b, τ', b1, b2, b3, b4⟩ := m_fit X S M hc hd'
  have C := X.2.2.2.2.2.2.1
  have cw := C.2.2 c hc.1 hc.2
  have sl : -1 ≤ σ fW_commandSlots 0 c := by
    rcases cw.2.2.2.1 with z | z | z <;> omega
  by_cases s1 : σ fW_commandSlots 0 c = -1
  · obtain ⟨q, q1, q2⟩ := k_fits S eB hb C hc (m := 0) (by omega) (d := d) (by omega)
    obtain ⟨c1, c2⟩ := b3 s1
    have eb : q = b := by
      have h : (q = true ↔ b = true) := q2.trans c2.symm
      cases q <;> cases b <;> simp_all
    exact ⟨b, -1, τ', b1, b2, fun _ => c1, Or.inl ⟨s1, rfl, by rw [← eb]; exact q1⟩⟩
  · obtain ⟨o, o1, o2⟩ := k_slot X S eB hb hc (by omega) hd
    obtain ⟨c1, c2⟩ := b4 (by omega)
    refine ⟨b, o, τ', b1, b2, fun h => ?_, Or.inr ⟨s1, o1, fun h => ?_, fun h => ?_⟩⟩
    · rcases o2 with z | z
      · exact absurd (c1 h) (z.2 _)
      · exact PF_u X s1 (c1 h) z.2
    · rcases o2 with z | z
      · exact absurd (c1 h) (z.2 _)
      · omega
    · rcases o2 with z | z
      · exact absurd z.1 h
      · exact c2 o z.2
/-- the step of the component's loop -/
theorem k_cmd1 {c o : Int} {b : Bool} (C : CW σ τ) (hc : 0 ≤ c ∧ c < σ fW_commands 0 0) {d : Nat} (h : (σ fW_commandSlots 0 c = -1 ∧ o = -1 ∧ c_x_fits d σ c 0 = some (b2i b, σ)) ∨ (σ fW_commandSlots 0 c ≠ -1 ∧ c_x_slot d σ c = some (o, σ) ∧ (b = true ↔ o ≠ -1))) : x_command_10 d σ 1 (-2) c = if b = true then x_command_86 d σ 1 c o else x_command_10 d σ 1 (-2) (c + 1) := by
  have c20 := C.1.2.2
  rw [e_x_command_10, if_pos hc.2, if_neg (by decide), if_pos rfl, ck_ok _ (by omega)]
  rcases h with ⟨h1, h2, h3⟩ | ⟨h1, h2, h3⟩
  · rw [if_pos h1, e_x_command_53, ck_ok _ (by omega), if_pos h1, h3, Option.bind_some, h2]
    cases b with
    | true => exact (if_neg b2i_n).trans (if_pos rfl).symm
    | false =>
      refine (if_pos b2i_f).trans ?_
      show x_command_107 d σ 1 (-2) c = _
      rw [e_x_command_107, w32_ok (by omega)]; rfl
  · rw [if_neg h1, h2, Option.bind_some]
    show x_command_53 d σ 1 (-2) c o = _
    rw [e_x_command_53, ck_ok _ (by omega), if_neg h1]
    by_cases z : o = -1
    · have bf : ¬ b = true := fun y => h3.mp y z
      rw [if_pos z, if_neg bf, e_x_command_107, w32_ok (by omega)]
    · rw [if_neg z, if_pos (h3.mpr z)]
/-- a word too long: no command fits -/
theorem k_long (X : SX σ τ g) (S : CS σ B N) (eB : σ fX_tape 0 = B) (hb : ∀ i, -128 ≤ B i ∧ B i < 128) {k0 : Int} (hk : 0 ≤ k0 ∧ k0 < N) (hl : 12 < σ fX_wordTo 0 k0 - σ fX_wordFrom 0 k0) {d : Nat} (hd : 4 ≤ d) : ∀ c, 0 ≤ c → x_command_10 d σ 1 (-2) c = some (-2, ga_up σ fX_taped 0 0 0) := by
  have C := X.2.2.2.2.2.2.1
  have c20 := C.1.2.2
  have l0 := (CS_W S hk).2.2
  refine rg_ind (n := σ fW_commands 0 0) (fun c h c0 => ?_) (fun c h ih c0 => ?_)
  · rw [e_x_command_10, if_neg (by omega), e_x_command_113]
  · have cw := C.2.2 c c0 h
    have n8 := cw.2.1.2
    have sl : -1 ≤ σ fW_commandSlots 0 c ∧ σ fW_commandSlots 0 c < σ fW_commandWords 0 c := by
      rcases cw.2.2.2.1 with z | z | z <;> omega
    have cl : ∀ k, 0 ≤ k → k < σ fW_commandWords 0 c → k ≠ σ fW_commandSlots 0 c → (cmL σ c k).length ≤ 12 := fun k a b e => (cwR_L (cw.2.2.2.2 k a b) e).2.2.1
    by_cases s1 : σ fW_commandSlots 0 c = -1
    · obtain ⟨q, q1, q2⟩ := k_fits S eB hb C ⟨c0, h⟩ (m := 0) (by omega) (d := d) (by omega)
      rw [k_cmd1 C ⟨c0, h⟩ (b := q) (o := -1) (Or.inl ⟨s1, rfl, q1⟩)]
      cases q with
      | true =>
        exfalso
        have F := q2.mp rfl
        have a := F.1
        rw [if_pos s1] at a
        have e := F.2 k0 hk.1 (by omega) (by omega)
        unfold atW at e
        rw [if_neg (fun z => z.1 s1)] at e
        have := cl k0 hk.1 (by omega) (by omega)
        rw [← e] at this; omega
      | false => exact (if_neg (by decide)).trans (ih (by omega))
    · obtain ⟨o, o1, o2⟩ := k_slot X S eB hb ⟨c0, h⟩ (by omega) hd
      rcases o2 with z | ⟨_, P⟩
      · rw [k_cmd1 C ⟨c0, h⟩ (b := false) (o := o) (Or.inr ⟨s1, o1, fun y => (by cases y), fun y => absurd z.1 y⟩)]
        exact (if_neg (by decide)).trans (ih (by omega))
      · exfalso
        obtain ⟨_, _, k, m, p1, p2, p3, p4, p5, p6, p7, p8, p9⟩ := P
        rw [if_neg s1] at p8
        by_cases y1 : k0 < σ fW_commandSlots 0 c
        · have e := p9 k0 hk.1 (by omega) (by omega)
          unfold atW at e
          rw [if_neg (fun z => by have := z.2; omega)] at e
          have := cl k0 hk.1 (by omega) (by omega)
          rw [← e] at this; omega
        · by_cases y2 : k0 < σ fW_commandSlots 0 c + m
          · have := (p6 (vW σ B k0) (List.mem_map.mpr ⟨k0, (rg_mem _).mpr (by omega), rfl⟩)).2.2
            omega
          · have e := p9 (k0 - m + 1) (by omega) (by omega) (by omega)
            unfold atW at e
            rw [if_pos ⟨s1, by omega⟩, show k0 - m + 1 - 1 + m = k0 by omega] at e
            have := cl (k0 - m + 1) (by omega) (by omega) (by omega)
            rw [← e] at this; omega
def cdC9 : List Nat := tuC ++ wdC ++ [fX_taped]
def cdM9 : List Nat := tuM ++ wdM ++ [fM_size, fM_saidNoun]
theorem AP_wipe (A : AP σ τ) : AP (ga_up σ fX_taped 0 0 0) (ga_up τ fM_size 0 0 0) := by
  obtain ⟨v, σ', τ', h1, h2, _, _, h5⟩ := q_wipe A (d := 1) (Nat.le_refl _)
  rw [e_x_wipe] at h1
  rw [e_m_wipe] at h2
  have a := congrArg Prod.snd (Option.some.inj h1)
  have b := congrArg Prod.snd (Option.some.inj h2)
  have a' : ga_up σ fX_taped 0 0 0 = σ' := a
  have b' : ga_up τ fM_size 0 0 0 = τ' := b
  rw [a', b']; exact h5
theorem cmd_l (S : CS σ B N) (eB : σ fX_tape 0 = B) (hb : ∀ i, -128 ≤ B i ∧ B i < 128) {d d' : Nat} (hd : 84 ≤ d) (hd' : 84 ≤ d') : ∀ c, 0 ≤ c → ∀ τ, AP (ga_up σ fX_taped 0 0 0) τ → MS σ τ B N → ∃ v σ' τ', x_command_10 d σ 1 (-2) c = some (v, σ') ∧ m_command_12 d' τ 1 c = some (v, τ') ∧ fr cdC9 σ σ' ∧ fr cdM9 τ τ' ∧ AP σ' τ' := by
  obtain ⟨U, eU⟩ : ∃ x, x = ga_up σ fX_taped 0 0 0 := ⟨_, rfl⟩
  have fU : fr [fX_taped] σ U := by rw [eU]; exact fr_u (by decide)
  have fV : fr [fX_taped] U σ := fun F hF => (fU F hF).symm
  rw [← eU]
  refine rg_ind (n := σ fW_commands 0 0) (fun c h c0 τ A M => ?_) (fun c h ih c0 τ A M => ?_)
  · have cm : τ fM_commands 0 0 = U fW_commands 0 0 := by
      obtain ⟨_, ⟨g, X⟩, _⟩ := A
      exact X.2.2.2.2.2.2.1.1.1
    rw [fU _ (by decide)] at cm
    refine ⟨-2, U, τ, ?_, ?_, fr_sub fU (mem_all (by decide +kernel)), fr_refl _ _, A⟩
    · rw [e_x_command_10, if_neg (by omega), e_x_command_113, eU]
    · rw [e_m_command_12, cm, if_neg (by omega)]
  · obtain ⟨g, X0⟩ := A.2.1
    have X : SX σ τ g := SX_f X0 fV (by decide +kernel) (fr_refl [] τ) (by decide +kernel)
    have C := X.2.2.2.2.2.2.1
    have c20 := C.1.2.2
    have cw := C.2.2 c c0 h
    obtain ⟨b, o, τ1, b1, b2, b3, b4⟩ := fit_J X S M eB hb ⟨c0, h⟩ (d := d) (d' := d') (by omega) (by omega)
    have rC := k_cmd1 C ⟨c0, h⟩ b4
    have rM : m_command_12 d' τ 1 c = if b2i b = 0 then m_command_12 d' τ1 1 (w32 (c + 1)) else ga_ck c 20 ((c_m_act d' τ1 (τ1 fM_commandAction 0 c) (τ1 fM_saidNoun 0 0)).bind fun q3 => some (q3.1, q3.2)) := by
      rw [e_m_command_12, C.1.1, if_pos h, if_neg (by decide), b1, Option.bind_some]
    have A1 : AP U τ1 := AP_f A (fr_refl [] U) (by decide +kernel) b2 (by decide +kernel)
    have M1 : MS σ τ1 B N := MS_f M b2 (by decide)
    cases b with
    | false =>
      obtain ⟨v, σ', τ', q1, q2, q3, q4, q5⟩ := ih (by omega) τ1 A1 M1
      refine ⟨v, σ', τ', rC.trans ((if_neg (by decide)).trans q1), rM.trans ((if_pos b2i_f).trans ?_), q3, fr_trans (fr_sub b2 (mem_all (by decide +kernel))) q4, q5⟩
      rw [w32_ok (by omega)]; exact q2
    | true =>
      obtain ⟨v, σ', τ', q1, q2, q3, q4, q5, q6⟩ := q_act A1 (σ fW_commandActions 0 c) o hd hd'
      have tp : σ' fX_taped 0 0 = 0 := by rw [q3 _ (by decide +kernel), eU, up_eq]
      refine ⟨v, σ', τ', rC.trans ((if_pos rfl).trans ?_), rM.trans ((if_neg b2i_n).trans ?_), fr_trans (fr_sub fU (mem_all (by decide +kernel))) (fr_sub q3 (mem_all (by decide +kernel))), fr_trans (fr_sub b2 (mem_all (by decide +kernel))) (fr_sub q4 (mem_all (by decide +kernel))), q5⟩
      · have r113 : x_command_113 d σ' v = some (v, σ') := by
          rw [e_x_command_113]
          have := up_self σ' fX_taped 0 0
          rw [tp] at this
          rw [this]
        rw [e_x_command_86, ck_ok _ (by omega), ← eU, q1, Option.bind_some]
        show x_command_107 d σ' 1 v c = _
        rw [e_x_command_107, w32_ok (by omega), e_x_command_10, if_neg (show ¬ (1 : Int) = 0 by decide), if_neg (show ¬ v = -2 by omega), r113, ite_self]
      · rw [ck_ok _ (by omega), b2 _ (by decide), cw.1.1, b3 rfl, q2, Option.bind_some]
theorem q_command (A : AP σ τ) {d d' : Nat} (hd : 85 ≤ d) (hd' : 85 ≤ d') : ∃ v σ' τ', c_x_command d σ = some (v, σ') ∧ c_m_command d' τ = some (v, τ') ∧ fr cdC9 σ σ' ∧ fr cdM9 τ τ' ∧ AP σ' τ' := by
  obtain ⟨d, rfl⟩ : ∃ e, d = e + 2 := ⟨d - 2, by omega⟩
  obtain ⟨d', rfl⟩ : ∃ e, d' = e + 2 := ⟨d' - 2, by omega⟩
  obtain ⟨t1, t2, t3, t4⟩ := A.1.1.1
  obtain ⟨B, eB⟩ : ∃ B, B = σ fX_tape 0 := ⟨_, rfl⟩
  obtain ⟨σ0, e0⟩ : ∃ x, x = ga_up σ fX_wordCount 0 0 0 := ⟨_, rfl⟩
  obtain ⟨τ0, g0⟩ : ∃ x, x = ga_up τ fM_saids 0 0 0 := ⟨_, rfl⟩
  have f0 : fr wdC σ σ0 := by rw [e0]; exact fr_u (by decide)
  have h0 : fr wdM τ τ0 := by rw [g0]; exact fr_u (by decide)
  have S0 : CS σ0 B 0 := ⟨by rw [e0, up_eq], by omega, fun k a b => by omega⟩
  have M0 : MS σ0 τ0 B 0 := ⟨by rw [g0, up_eq], fun k a b => by omega⟩
  obtain ⟨b, b', σ1, τ1, w1, w2, w3, w4, w5, w6⟩ := ws_l (B := B) (n := σ fX_taped 0 0) (by omega) (by rw [eB]; exact t4) (d := d) (d' := d') (by omega) (by omega) 0 (Int.le_refl _) σ0 τ0 0 (by rw [f0 _ (by decide), eB]) (by rw [f0 _ (by decide)]) (by rw [h0 _ (by decide), eB]; exact t1) (by rw [h0 _ (by decide)]; exact t2) S0 M0
  have f1 : fr wdC σ σ1 := fr_trans f0 w3
  have h1 : fr wdM τ τ1 := fr_trans h0 w4
  have A1 : AP σ1 τ1 := AP_f A f1 (by decide +kernel) h1 (by decide +kernel)
  have A2 := AP_wipe A1
  obtain ⟨U, eU⟩ : ∃ x, x = ga_up σ1 fX_taped 0 0 0 := ⟨_, rfl⟩
  obtain ⟨τ2, g2⟩ : ∃ x, x = ga_up τ1 fM_size 0 0 0 := ⟨_, rfl⟩
  have fU : fr [fX_taped] σ1 U := by rw [eU]; exact fr_u (by decide)
  have h2 : fr [fM_size] τ1 τ2 := by rw [g2]; exact fr_u (by decide)
  have rC : c_x_command (d + 2) σ = x_command_10 (d + 1) σ1 (b2i b) (-2) 0 := by
    rw [e_x_command, e_x_isWords, ← e0, w1, Option.bind_some]
  have rM : c_m_command (d' + 2) τ = m_command_12 (d' + 1) τ2 (b2i b') 0 := by
    rw [e_m_command, e_m_isSaid, ← g0, w2, Option.bind_some, g2]
  rw [← eU, ← g2] at A2
  have FC : fr cdC9 σ U := fr_trans (fr_sub f1 (mem_all (by decide +kernel))) (fr_sub fU (mem_all (by decide +kernel)))
  have FM : fr cdM9 τ τ2 := fr_trans (fr_sub h1 (mem_all (by decide +kernel))) (fr_sub h2 (mem_all (by decide +kernel)))
  have mNo : b' = false → m_command_12 (d' + 1) τ2 (b2i b') 0 = some (-2, τ2) := by
    intro z
    rw [z, e_m_command_12, if_pos b2i_f, ite_self]
  have tB : σ1 fX_tape 0 = B := by rw [f1 _ (by decide), eB]
  have hB : ∀ i, -128 ≤ B i ∧ B i < 128 := by rw [eB]; exact t4
  cases b' with
  | true =>
    obtain ⟨bt, N, S, M⟩ := w5 rfl
    have M2 : MS σ1 τ2 B N := MS_f M h2 (by decide)
    obtain ⟨v, σ', τ', q1, q2, q3, q4, q5⟩ := cmd_l S tB hB (d := d + 1) (d' := d' + 1) (by omega) (by omega) 0 (Int.le_refl _) τ2 (by rw [← eU]; exact A2) M2
    refine ⟨v, σ', τ', ?_, rM.trans q2, fr_trans (fr_sub f1 (mem_all (by decide +kernel))) q3, fr_trans FM q4, q5⟩
    rw [rC, bt]; exact q1
  | false =>
    refine ⟨-2, U, τ2, ?_, rM.trans (mNo rfl), FC, FM, A2⟩
    rw [rC]
    cases b with
    | false => rw [e_x_command_10, if_pos b2i_f, e_x_command_113, ite_self, eU]
    | true =>
      obtain ⟨N, S, w7⟩ := w6 rfl
      obtain ⟨k, k0, k1, k2⟩ := w7 rfl
      obtain ⟨g, X⟩ := A1.2.1
      rw [eU]
      exact k_long X S tB hB ⟨k0, k1⟩ k2 (d := d + 1) (by omega) 0 (Int.le_refl _)
end

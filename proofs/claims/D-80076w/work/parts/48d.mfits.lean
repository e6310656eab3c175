/-! commands against the words said, model -/
section
variable {σ τ : ga_S} {B : Int → Int} {N g : Int}
theorem sM_12 (s x : Int) : sM s x = 12 ↔ s = 9 := by
  unfold sM
  constructor
  · intro h
    repeat' split at h
    all_goals first | assumption | (exfalso; revert h; decide)
  · intro h; rw [h]; rfl
theorem CS_W (S : CS σ B N) {k : Int} (hk : 0 ≤ k ∧ k < N) : isW (vW σ B k) ∧ vW σ B k ≠ [] ∧ ((vW σ B k).length : Int) = σ fX_wordTo 0 k - σ fX_wordFrom 0 k := by
  obtain ⟨s1, s2, s3, s4⟩ := S.2.2 k hk.1 hk.2
  have l := wdB_len (B := B) (p := σ fX_wordFrom 0 k) (n := σ fX_wordTo 0 k - σ fX_wordFrom 0 k) (by omega)
  refine ⟨wdB_W (fun q a b => s4 q a (by omega)), fun z => ?_, l⟩
  unfold vW at z
  rw [z] at l
  have : (([] : List Int).length : Int) = 0 := rfl
  omega
theorem vWs_W (S : CS σ B N) (M : MS σ τ B N) {a m : Int} (ha : 0 ≤ a) (hm : a + m ≤ N) : wsW (vWs σ B a (a + m)) := by
  intro w hw
  unfold vWs at hw
  obtain ⟨k, k1, k2⟩ := List.mem_map.mp hw
  have k3 := (rg_mem (n := a + m) a).mp k1
  have c := CS_W S (k := k) (by omega)
  have l := (M.2 k (by omega) (by omega)).2
  rw [← k2]
  exact ⟨c.1, c.2.1, by omega⟩
theorem m_f1 (S : CS σ B N) (M : MS σ τ B N) {c k w n more : Int} (hc : 0 ≤ c ∧ c < 20) (hk : 0 ≤ k ∧ k < n) (hn : n ≤ 8) (cw : cwR σ τ c k) (ks : k ≠ σ fW_commandSlots 0 c) (hw : 0 ≤ w) (d : Nat) : m_fitsCommand_25 d τ c n more w k = if w < N ∧ vW σ B w = cmL σ c k then m_fitsCommand_25 d τ c n more (w + 1) (k + 1) else some (0, τ) := by
  have S2 := S.2.1
  obtain ⟨l1, l2, l3, l4, _⟩ := cwR_L cw ks
  have ne : ¬ ga_lcmp (τ fM_commandWord 0 (8 * c + k)) 0 = 0 := by
    rw [lcmp_0, l4]
    intro z
    exact l2 (pack_inj l1 (fun x hx => absurd hx (by simp)) z)
  rw [e_m_fitsCommand_25, if_pos hk.2, w32_ok (x := 8 * c) (by omega), w32_ok (x := 8 * c + k) (by omega), ck_ok _ (by omega), if_neg ne, M.1]
  by_cases h : w < N
  · rw [if_pos h, ck_ok _ (by omega), ck_ok _ (by omega), (M.2 w hw h).1, l4]
    by_cases q : vW σ B w = cmL σ c k
    · rw [if_pos (lcmp_0.mpr (by rw [q])), if_pos ⟨h, q⟩, e_m_fitsCommand_267, w32_ok (by omega), w32_ok (by omega)]
    · rw [if_neg (fun z => q (pack_inj (CS_W S ⟨hw, h⟩).1 l1 (lcmp_0.mp z))), if_neg (fun z => q z.2)]
  · rw [if_neg h, if_neg (fun z => h z.1)]
theorem m_ftail (S : CS σ B N) (M : MS σ τ B N) {c n off more : Int} (hc : 0 ≤ c ∧ c < 20) (hn : n ≤ 8) (cw : ∀ k, 0 ≤ k → k < n → cwR σ τ c k) (ho : 0 ≤ off) (d : Nat) : ∀ k, 0 ≤ k → k ≤ n → σ fW_commandSlots 0 c < k → ∃ b, m_fitsCommand_25 d τ c n more (k + off) k = some (b2i b, τ) ∧ (b = true ↔ n + off = N ∧ ∀ j, k ≤ j → j < n → vW σ B (j + off) = cmL σ c j) := by
  refine rg_ind (n := n) (fun k h k0 k1 ks => ?_) (fun k h ih k0 k1 ks => ?_)
  · have e : k = n := by omega
    by_cases q : n + off = N
    · refine ⟨true, ?_, fun _ => ⟨q, fun j j0 j1 => by omega⟩, fun _ => rfl⟩
      rw [e_m_fitsCommand_25, if_neg (by omega), M.1, if_pos (by omega)]; rfl
    · refine ⟨false, ?_, fun h => (by cases h), fun h => absurd h.1 q⟩
      rw [e_m_fitsCommand_25, if_neg (by omega), M.1, if_neg (by omega)]; rfl
  · obtain ⟨b, b1, b2⟩ := ih (by omega) (by omega) (by omega)
    rw [m_f1 S M hc ⟨k0, h⟩ hn (cw k k0 h) (by omega) (by omega) d]
    by_cases q : k + off < N ∧ vW σ B (k + off) = cmL σ c k
    · refine ⟨b, ?_, fun hb => ⟨(b2.mp hb).1, fun j j0 j1 => ?_⟩, fun hh => b2.mpr ⟨hh.1, fun j j0 j1 => hh.2 j (by omega) j1⟩⟩
      · rw [if_pos q, show k + off + 1 = k + 1 + off by omega]; exact b1
      · by_cases jk : j = k
        · rw [jk]; exact q.2
        · exact (b2.mp hb).2 j (by omega) j1
    · refine ⟨false, by rw [if_neg q]; rfl, fun h => (by cases h), fun hh => absurd ⟨?_, hh.2 k (Int.le_refl _) h⟩ q⟩
      have := hh.1; omega
theorem m_fhead (S : CS σ B N) (M : MS σ τ B N) {c n slot more : Int} (hc : 0 ≤ c ∧ c < 20) (hn : n ≤ 8) (hs : slot = σ fW_commandSlots 0 c) (hs1 : slot < n) (cw : ∀ k, 0 ≤ k → k < n → cwR σ τ c k) (d : Nat) : ∀ k, 0 ≤ k → k ≤ slot → ((∀ j, k ≤ j → j < slot → j < N ∧ vW σ B j = cmL σ c j) ∧ m_fitsCommand_25 d τ c n more k k = m_fitsCommand_25 d τ c n more slot slot) ∨ (¬ (∀ j, k ≤ j → j < slot → j < N ∧ vW σ B j = cmL σ c j) ∧ m_fitsCommand_25 d τ c n more k k = some (0, τ)) := by
  refine rg_ind (n := slot) (fun k h k0 k1 => ?_) (fun k h ih k0 k1 => ?_)
  · have e : k = slot := by omega
    rw [e]
    exact Or.inl ⟨fun j j0 j1 => by omega, rfl⟩
  · have f := m_f1 S M (more := more) hc ⟨k0, by omega⟩ hn (cw k k0 (by omega)) (by omega) k0 d
    by_cases q : k < N ∧ vW σ B k = cmL σ c k
    · rw [f, if_pos q]
      rcases ih (by omega) (by omega) with ⟨z1, z2⟩ | ⟨z1, z2⟩
      · refine Or.inl ⟨fun j j0 j1 => ?_, z2⟩
        by_cases jk : j = k
        · rw [jk]; exact q
        · exact z1 j (by omega) j1
      · exact Or.inr ⟨fun hh => z1 (fun j j0 j1 => hh j (by omega) j1), z2⟩
    · rw [f, if_neg q]
      exact Or.inr ⟨fun hh => q (hh k (Int.le_refl _) h), rfl⟩
/-- what stands in the slot, model -/
theorem m_fslot (X : SX σ τ g) (S : CS σ B N) (M : MS σ τ B N) {c n slot m : Int} (hc : 0 ≤ c ∧ c < σ fW_commands 0 0) (en : n = σ fW_commandWords 0 c) (hs : slot = σ fW_commandSlots 0 c) (hs1 : 0 ≤ slot) (em : m = 1 + (N - n)) {d : Nat} (hd : 1 ≤ d) : ((1 ≤ m ∧ m ≤ 3) ∧ slot + m ≤ N ∧ ∃ k, live σ k ∧ ent σ k = jn (vWs σ B slot (slot + m)) ∧ σ fD_sorts 0 k = (if σ fW_commandKinds 0 c = -2 then 9 else 2) ∧ (σ fW_commandKinds 0 c = -2 ∨ isB (σ fW_parents 0) (σ fW_kindOf 0 (σ fD_numbers 0 k)) (σ fW_commandKinds 0 c) = true) ∧ m_fitsCommand_25 d τ c n (N - n) slot slot = m_fitsCommand_25 d (ga_up τ fM_saidNoun 0 0 (σ fD_numbers 0 k)) c n (N - n) (slot + m) (slot + 1)) ∨ (¬ ((1 ≤ m ∧ m ≤ 3) ∧ slot + m ≤ N ∧ ∃ k, live σ k ∧ ent σ k = jn (vWs σ B slot (slot + m)) ∧ σ fD_sorts 0 k = (if σ fW_commandKinds 0 c = -2 then 9 else 2) ∧ (σ fW_commandKinds 0 c = -2 ∨ isB (σ fW_parents 0) (σ fW_kindOf 0 (σ fD_numbers 0 k)) (σ fW_commandKinds 0 c) = true)) ∧ m_fitsCommand_25 d τ c n (N - n) slot slot = some (0, τ)) := by
  have S2 := S.2.1
  have C := X.2.2.2.2.2.2.1
  have R := X.2.2.1.1
  have Wd := X.2.2.1.2.1
  have Wo := X.1.2.1
  have o24 := Wo.2.1
  have c20 := C.1.2.2
  have cw := C.2.2 c hc.1 hc.2
  have n8 := cw.2.1.2
  have sl : slot < n := by
    rcases cw.2.2.2.1 with z | z | z <;> omega
  have w0 : τ fM_commandWord 0 (8 * c + slot) = 0 := by
    rcases cw.2.2.2.2 slot hs1 (by omega) with z | z
    · exact z.2
    · exact absurd hs z.1
  have st : m_fitsCommand_25 d τ c n (N - n) slot slot = if m < 1 then some (0, τ) else if 3 < m then some (0, τ) else if N < slot + m then some (0, τ) else ga_ck slot 50 (if 1 < m then ga_ck (w32 (slot + 1)) 50 (m_fitsCommand_146 d τ c n (N - n) slot slot m (τ fM_said 0 (w32 (slot + 1))) (τ fM_said 0 slot)) else m_fitsCommand_146 d τ c n (N - n) slot slot m 0 (τ fM_said 0 slot)) := by
    rw [e_m_fitsCommand_25, if_pos sl, w32_ok (x := 8 * c) (by omega), w32_ok (x := 8 * c + slot) (by omega), ck_ok _ (by omega), if_pos (lcmp_0.mpr w0), M.1, w32_ok (x := 1 + (N - n)) (by omega), ← em, w32_ok (x := slot + m) (by omega)]
  by_cases m1 : m < 1
  · exact Or.inr ⟨fun z => by omega, by rw [st, if_pos m1]⟩
  by_cases m3 : 3 < m
  · exact Or.inr ⟨fun z => by omega, by rw [st, if_neg m1, if_pos m3]⟩
  by_cases mN : N < slot + m
  · exact Or.inr ⟨fun z => by have := z.2.1; omega, by rw [st, if_neg m1, if_neg m3, if_pos mN]⟩
  obtain ⟨Q, eQ⟩ : ∃ Q, Q = vWs σ B slot (slot + m) := ⟨_, rfl⟩
  have hQ : wsW Q := by rw [eQ]; exact vWs_W S M hs1 (by omega)
  have lQ : (Q.length : Int) = m := by rw [eQ]; exact vWs_len (by omega)
  have gQ : ∀ j : Nat, (j : Int) < m → τ fM_said 0 (slot + j) = pack (Q.getD j []) := fun j hj => by
    rw [eQ, vWs_g hj]; exact (M.2 (slot + j) (by omega) (by omega)).1
  have g0 : τ fM_said 0 slot = pack (Q.getD 0 []) := by
    have := gQ 0 (by omega)
    rw [show slot + ((0 : Nat) : Int) = slot by omega] at this; exact this
  obtain ⟨x1, x2, s165, h1, h2⟩ : ∃ x1 x2, m_fitsCommand_25 d τ c n (N - n) slot slot = m_fitsCommand_165 d τ c n (N - n) slot slot m x2 x1 (τ fM_said 0 slot) ∧ (1 < Q.length → x1 = pack (Q.getD 1 [])) ∧ (2 < Q.length → x2 = pack (Q.getD 2 [])) := by
    rw [st, if_neg m1, if_neg m3, if_neg mN, ck_ok _ (by omega)]
    by_cases a1 : 1 < m
    · rw [if_pos a1, w32_ok (x := slot + 1) (by omega), ck_ok _ (by omega), e_m_fitsCommand_146]
      by_cases a2 : 2 < m
      · rw [if_pos a2, w32_ok (x := slot + 2) (by omega), ck_ok _ (by omega)]
        exact ⟨_, _, rfl, fun _ => gQ 1 (by omega), fun _ => gQ 2 (by omega)⟩
      · rw [if_neg a2]
        exact ⟨_, _, rfl, fun _ => gQ 1 (by omega), fun z => by omega⟩
    · rw [if_neg a1, e_m_fitsCommand_146, if_neg (by omega)]
      exact ⟨_, _, rfl, fun z => by omega, fun z => by omega⟩
  obtain ⟨f1, f2⟩ := RD_find R hQ (by omega) (by omega) (a := τ fM_said 0 slot) (b := x1) (c := x2) g0 h1 h2
  obtain ⟨l, el⟩ : ∃ l, l = mfI τ (τ fM_said 0 slot) x1 x2 m 0 := ⟨_, rfl⟩
  rw [lQ, ← el] at f1 f2
  have s188 : m_fitsCommand_25 d τ c n (N - n) slot slot = m_fitsCommand_188 d τ c n (N - n) slot slot m l (if σ fW_commandKinds 0 c = -2 then 1 else 0) := by
    rw [s165, e_m_fitsCommand_165, s_m_find hd R.2.2.1, Option.bind_some, ← el, ck_ok _ (by omega)]
    show (if τ fM_commandKind 0 c = -2 then m_fitsCommand_188 d τ c n (N - n) slot slot m l 1 else m_fitsCommand_188 d τ c n (N - n) slot slot m l 0) = _
    rw [cw.2.2.1]
    by_cases z : σ fW_commandKinds 0 c = -2
    · rw [if_pos z, if_pos z]
    · rw [if_neg z, if_neg z]
  rw [← eQ]
  by_cases kn : fnd σ (jn Q) 0 = -1
  · right
    refine ⟨?_, by rw [s188, e_m_fitsCommand_188, if_pos (f1 kn)]⟩
    rintro ⟨_, _, k, k1, k2, _⟩
    exact fnd_n kn k k1.1 k1.2.1 k1.2.2 k2
  · obtain ⟨l0, l1, l2, l3⟩ := f2 kn
    have fr0 := (fnd_r (σ := σ) (nm := jn Q) (Int.le_refl 0)).resolve_left kn
    obtain ⟨k, ek⟩ : ∃ k, k = fnd σ (jn Q) 0 := ⟨_, rfl⟩
    rw [← ek] at l2 l3 fr0 kn
    have lv : live σ k := ⟨fr0.1, fr0.2.1, fr0.2.2.1⟩
    have eu : ∀ k', live σ k' → ent σ k' = jn Q → k' = k := fun k' a b => R.2.2.2.2.2.1 k' k a lv (by rw [b, fr0.2.2.2])
    have l300 := R.2.2.1
    have wd := Wd k lv
    have rk := R.2.2.2.2.2.2.2 k lv
    by_cases z : σ fW_commandKinds 0 c = -2
    · rw [if_pos z] at s188 ⊢
      have s214 : m_fitsCommand_25 d τ c n (N - n) slot slot = if τ fM_lexSort 0 l = 12 then m_fitsCommand_249 d τ c n (N - n) slot slot m l else some (0, τ) := by
        rw [s188, e_m_fitsCommand_188, if_neg (by omega), ck_ok _ (by omega), if_neg (by decide), e_m_fitsCommand_214, if_neg (show ¬ (1 : Int) = 0 by decide)]
      by_cases q : σ fD_sorts 0 k = 9
      · left
        refine ⟨by omega, by omega, k, lv, fr0.2.2.2, q, Or.inl z, ?_⟩
        rw [s214, if_pos (by rw [l2]; exact (sM_12 _ _).mpr q), e_m_fitsCommand_249, ck_ok _ (by omega), e_m_fitsCommand_267, w32_ok (by omega), w32_ok (by omega), l3, iM_n (by omega)]
      · right
        refine ⟨?_, by rw [s214, if_neg (by rw [l2, sM_12]; exact q)]⟩
        rintro ⟨_, _, k', k1, k2, k3, _⟩
        rw [eu k' k1 k2] at k3; exact q k3
    · rw [if_neg z] at s188 ⊢
      by_cases q : σ fD_sorts 0 k = 2
      · rw [q] at wd
        have ob : σ fD_numbers 0 k < σ fW_objects 0 0 := wd.1
        have wo := Wo.2.2.2 _ rk.2.2.2.1 ob
        have li : τ fM_lexIndex 0 l = σ fD_numbers 0 k := by rw [l3, iM_n (by omega)]
        have ib := s_m_isBelow (τ := τ) X.1.1.1 X.1.1.2.2.2.1 hd (k := σ fW_kindOf 0 (σ fD_numbers 0 k)) (σ fW_commandKinds 0 c) (by omega) wo.2.1
        have s214 : m_fitsCommand_25 d τ c n (N - n) slot slot = if b2i (isB (σ fW_parents 0) (σ fW_kindOf 0 (σ fD_numbers 0 k)) (σ fW_commandKinds 0 c)) = 0 then some (0, τ) else m_fitsCommand_249 d τ c n (N - n) slot slot m l := by
          rw [s188, e_m_fitsCommand_188, if_neg (by omega), ck_ok _ (by omega), if_pos rfl, e_m_fitsCommand_214, if_pos (by rw [l2]; exact (sM_4 _ _).mpr q), if_pos rfl, ck_ok _ (by omega), li, ck_ok _ (by omega), ck_ok _ (by omega), wo.2.2, cw.2.2.1, ib, Option.bind_some]
        cases b : isB (σ fW_parents 0) (σ fW_kindOf 0 (σ fD_numbers 0 k)) (σ fW_commandKinds 0 c) with
        | true =>
          left
          rw [b] at s214
          refine ⟨by omega, by omega, k, lv, fr0.2.2.2, q, Or.inr b, (s214.trans (if_neg b2i_n)).trans ?_⟩
          rw [e_m_fitsCommand_249, ck_ok _ (by omega), e_m_fitsCommand_267, w32_ok (by omega), w32_ok (by omega), li]
        | false =>
          right
          rw [b] at s214
          refine ⟨?_, s214.trans (if_pos b2i_f)⟩
          rintro ⟨_, _, k', k1, k2, k3, k4⟩
          rw [eu k' k1 k2] at k4
          rcases k4 with k4 | k4
          · exact z k4
          · rw [b] at k4; cases k4
      · right
        refine ⟨?_, ?_⟩
        · rintro ⟨_, _, k', k1, k2, k3, _⟩
          rw [eu k' k1 k2] at k3; exact q k3
        · rw [s188, e_m_fitsCommand_188, if_neg (by omega), ck_ok _ (by omega), if_pos rfl, e_m_fitsCommand_214, if_neg (by rw [l2, sM_4]; exact q)]
end

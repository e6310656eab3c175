/-! the check of a command -/
theorem sM_0 (s x : Int) : sM s x = 0 ↔ s = 0 := by
  unfold sM
  repeat' split
  all_goals omega
section
variable {σ0 τ0 : ga_S} {f : Int} {N : Nat}
/-- the words of a slot -/
theorem sl_W {B : Int → Int} {c a : Int} {M : Nat} (o : okF B c a M 0) : wsW ((rg 0 (M : Int)).map (wx B c a)) ∧ ((rg 0 (M : Int)).map (wx B c a)).length = M ∧ (∀ j : Nat, j < M → ((rg 0 (M : Int)).map (wx B c a)).getD j [] = wx B c a j) := by
  refine ⟨fun w hw => ?_, ?_, fun j hj => ?_⟩
  · obtain ⟨q, hq, rfl⟩ := List.mem_map.mp hw
    have m := (rg_mem 0).mp hq
    have t := wx_ok (B := B) (c := c) (a := a) (j := q.toNat) (Or.inl (o.2 q.toNat (Nat.zero_le _) (by omega)))
    rw [show ((q.toNat : Nat) : Int) = q by omega] at t
    exact ⟨t.1, t.2.1, t.2.2.1⟩
  · rw [List.length_map]
    have l := rg_len (n := (M : Int)) 0
    rw [if_pos (by omega)] at l
    omega
  · have := rg_getD (wx B c a) [] j 0 (M : Int) (by omega)
    rw [Int.zero_add] at this
    exact this
/-- direction, on both sides -/
theorem cm_dir {B : Int → Int} {ρ τ : ga_S} {n : Int} (S : cmS σ0 B ρ τ n) : ρ fR_isDirection 0 0 = (if τ fM_slotWords 0 0 = 1 ∧ τ fM_slotWord 0 0 = pack dirW then 1 else 0) := by
  rcases S with s | ⟨s0, c, a, M, o, m0, s1, s2, s3, s4⟩
  · rw [s.2.2.2, s.2.1, if_neg (fun v => by omega)]
  · obtain ⟨w1, w2, w3⟩ := sl_W o
    obtain ⟨Q, eQ⟩ : ∃ z, z = (rg 0 (M : Int)).map (wx B c a) := ⟨_, rfl⟩
    rw [← eQ] at w1 w2 w3
    have en : nx B c a 0 M = jn Q := by rw [eQ]; rfl
    have ed : jn [dirW] = dirW := rfl
    have key : nx B c a 0 M = dirW ↔ (τ fM_slotWords 0 0 = 1 ∧ τ fM_slotWord 0 0 = pack dirW) := by
      rw [en]
      constructor
      · intro z
        have q1 : Q = [dirW] := jn_inj Q [dirW] (wsW_1 w1) (fun w hw => by rw [List.mem_singleton.mp hw]; exact ⟨dir_W.1, dir_W.2.1⟩) (z.trans ed.symm)
        have M1 : M = 1 := by rw [← w2, q1]; rfl
        have g := w3 0 (by omega)
        have s := s2 0 (by omega) (by omega)
        rw [Int.natCast_zero] at g s
        rw [← g, q1] at s
        exact ⟨by omega, s⟩
      · intro z
        have M1 : M = 1 := by omega
        have g := w3 0 (by omega)
        have s := s2 0 (by omega) (by omega)
        rw [Int.natCast_zero] at g s
        have wo := wx_ok (B := B) (c := c) (a := a) (j := 0) (Or.inl (o.2 0 (Nat.zero_le _) (by omega)))
        rw [Int.natCast_zero] at wo
        have e1 : wx B c a 0 = dirW := pack_inj wo.1 dir_W.1 (s.symm.trans z.2)
        have q1 : Q = [dirW] := by
          obtain ⟨x, hx⟩ := List.length_eq_one_iff.mp (show Q.length = 1 by omega)
          rw [hx] at g ⊢
          have : x = wx B c a 0 := g
          rw [this, e1]
        rw [q1]; rfl
    rw [s4]
    by_cases z : nx B c a 0 M = dirW
    · rw [decide_eq_true z, if_pos (key.mp z)]; rfl
    · rw [decide_eq_false z, if_neg (fun v => z (key.mpr v))]; rfl
/-- the kind in a slot, model -/
theorem m_askK {ρ : ga_S} (E : E0 σ0 τ0 f N) (K : KM τ0 ρ) {B : Int → Int} {ρc : ga_S} {n X : Int} (S : cmS σ0 B ρc ρ n) (hX : 0 ≤ X ∧ X < σ0 fW_actions 0 0) {d : Nat} (hd : 3 ≤ d) : (if 3 < ρ fM_slotWords 0 0 then m_askCommand_183 d ρ X else if ρ fM_slotWords 0 0 = 0 then m_askCommand_183 d ρ X else if 1 < ρ fM_slotWords 0 0 then m_askCommand_212 d ρ X (ρ fM_slotWord 0 1) (ρ fM_slotWord 0 0) else m_askCommand_212 d ρ X 0 (ρ fM_slotWord 0 0)) = m_askCommand_295 d (ga_up ρ fM_newKind 0 0 (if (decide (ρc fR_commandKind 0 0 ≠ -1) && isB (σ0 fW_parents 0) (ρc fR_commandKind 0 0) (σ0 fW_actionKinds 0 X)) = true then ρc fR_commandKind 0 0 else -1)) (b2i (decide (ρc fR_commandKind 0 0 ≠ -1) && isB (σ0 fW_parents 0) (ρc fR_commandKind 0 0) (σ0 fW_actionKinds 0 X))) := by
  have R := RD_m (KM_lex K) E.2.2.1
  have wk := e0_k E
  have wc := e0_c E
  have wc2 := wc.2.1
  have no275 : ∀ v3, m_askCommand_275 d ρ v3 = m_askCommand_295 d (ga_up ρ fM_newKind 0 0 (-1)) 0 := fun v3 => by rw [e_m_askCommand_275, e_m_askCommand_276, if_pos rfl, e_m_askCommand_292]
  have no183 : m_askCommand_183 d ρ X = m_askCommand_295 d (ga_up ρ fM_newKind 0 0 (-1)) 0 := by rw [e_m_askCommand_183, e_m_askCommand_237, if_pos rfl, no275]
  rcases S with s | ⟨s0, c, a, M, o, m0, s1, s2, s3, s4⟩
  · rw [s.2.1, if_neg (by decide), if_pos rfl, no183, s.2.2.1]
    rfl
  · obtain ⟨w1, w2, w3⟩ := sl_W o
    obtain ⟨Q, eQ⟩ : ∃ z, z = (rg 0 (M : Int)).map (wx B c a) := ⟨_, rfl⟩
    rw [← eQ] at w1 w2 w3
    have en : nx B c a 0 M = jn Q := by rw [eQ]; rfl
    rw [en] at s3
    obtain ⟨D, eD⟩ : ∃ z, z = ρc fR_commandKind 0 0 := ⟨_, rfl⟩
    rw [← eD] at s3 ⊢
    rw [s1]
    by_cases m3 : 3 < (M : Int)
    · have nn := RD_none R w1 (Or.inr (by omega))
      have d1 : D = -1 := by rw [s3]; unfold dN; rw [if_pos (Or.inl nn)]
      rw [if_pos m3, no183, d1]; rfl
    · have g : ∀ j : Nat, j < M → ρ fM_slotWord 0 j = pack (Q.getD j []) := fun j hj => by rw [w3 j hj]; exact s2 j hj (by omega)
      have g0 := g 0 (by omega)
      rw [Int.natCast_zero] at g0
      have f230 : ∀ b' c' : Int, (1 < Q.length → b' = pack (Q.getD 1 [])) → (2 < Q.length → c' = pack (Q.getD 2 [])) → m_askCommand_230 d ρ X c' b' (ρ fM_slotWord 0 0) = m_askCommand_295 d (ga_up ρ fM_newKind 0 0 (if (decide (D ≠ -1) && isB (σ0 fW_parents 0) D (σ0 fW_actionKinds 0 X)) = true then D else -1)) (b2i (decide (D ≠ -1) && isB (σ0 fW_parents 0) D (σ0 fW_actionKinds 0 X))) := by
        intro b' c' hb hc
        have fd := RD_find R w1 (by omega) (by omega) g0 hb hc
        obtain ⟨k', ek⟩ : ∃ z, z = mfI ρ (ρ fM_slotWord 0 0) b' c' Q.length 0 := ⟨_, rfl⟩
        rw [← ek] at fd
        rw [e_m_askCommand_230, s1, show (M : Int) = (Q.length : Int) by omega, s_m_find (by omega) R.2.2.1, ← ek]
        simp only [Option.bind_some]
        rw [e_m_askCommand_237]
        by_cases z : fnd σ0 (jn Q) 0 = -1
        · have d1 : D = -1 := by rw [s3]; unfold dN; rw [if_pos (Or.inl z)]
          rw [if_pos (fd.1 z), no275, d1]; rfl
        · have t := fd.2 z
          have lx := R.2.2.1
          rw [if_neg (by omega), ck_ok _ (by omega), t.2.2.1]
          by_cases y : σ0 fD_sorts 0 (fnd σ0 (jn Q) 0) = 0
          · have dv : D = σ0 fD_numbers 0 (fnd σ0 (jn Q) 0) := by rw [s3]; unfold dN; rw [if_neg (fun v => v.elim z (fun u => u y))]
            have rD := e0_dN E (jn Q) 0
            rw [← s3] at rD
            have m0' : mxN σ0 0 = σ0 fW_kinds 0 0 := rfl
            have f0 := (fnd_r (σ := σ0) (nm := jn Q) (Int.le_refl 0)).resolve_left z
            have nu := (E.2.2.1.2.2.2.2.2.2.2 _ ⟨f0.1, f0.2.1, f0.2.2.1⟩).2.2.2.1
            have dn : D ≠ -1 := by omega
            have li : ρ fM_lexIndex 0 k' = D := by rw [t.2.2.2, iM_n (by omega)]; exact dv.symm
            have ak : ρ fM_actionKind 0 X = σ0 fW_actionKinds 0 X := by rw [K _ (by decide)]; exact (wc.2.2.2 X hX.1 hX.2).2.2
            rw [if_pos ((sM_0 _ _).mpr y), ck_ok _ (by omega), ck_ok _ (by omega), li, ak, s_m_isBelow wk.1 (fun k u1 u2 => by rw [K _ (by decide)]; exact wk.2.2.2.1 k u1 u2) (by omega) _ (by omega) (by omega)]
            simp only [Option.bind_some]
            rw [decide_eq_true (p := D ≠ -1) dn, Bool.true_and]
            cases ib : isB (σ0 fW_parents 0) D (σ0 fW_actionKinds 0 X) with
            | false => rw [if_pos b2i_f, no275, if_neg (by decide)]; rfl
            | true => rw [if_neg b2i_n, e_m_askCommand_276, if_neg (by decide), ck_ok _ (by omega), li, e_m_askCommand_292, if_pos rfl]; rfl
          · have d1 : D = -1 := by rw [s3]; unfold dN; rw [if_pos (Or.inr y)]
            rw [if_neg (fun v => y ((sM_0 _ _).mp v)), no275, d1]; rfl
      have f212 : ∀ b' : Int, (1 < Q.length → b' = pack (Q.getD 1 [])) → m_askCommand_212 d ρ X b' (ρ fM_slotWord 0 0) = m_askCommand_295 d (ga_up ρ fM_newKind 0 0 (if (decide (D ≠ -1) && isB (σ0 fW_parents 0) D (σ0 fW_actionKinds 0 X)) = true then D else -1)) (b2i (decide (D ≠ -1) && isB (σ0 fW_parents 0) D (σ0 fW_actionKinds 0 X))) := by
        intro b' hb
        rw [e_m_askCommand_212, s1]
        by_cases z : 2 < (M : Int)
        · rw [if_pos z]
          exact f230 b' _ hb (fun _ => g 2 (by omega))
        · rw [if_neg z]
          exact f230 b' 0 hb (fun v => by omega)
      rw [if_neg m3, if_neg (by omega)]
      by_cases z : 1 < (M : Int)
      · rw [if_pos z]
        exact f212 _ (fun _ => g 1 (by omega))
      · rw [if_neg z]
        exact f212 0 (fun v => by omega)
end

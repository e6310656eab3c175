/-! the tape is fed, on both sides -/
theorem lo8 (x y : BitVec 64) (h : ∀ i, i < 8 → x.getLsbD i = y.getLsbD i) : x.toInt % 256 = y.toInt % 256 := by
  have e : x.setWidth 8 = y.setWidth 8 := by
    apply BitVec.eq_of_getLsbD_eq
    intro i hi
    rw [BitVec.getLsbD_setWidth, BitVec.getLsbD_setWidth, h i hi]
  have n : x.toNat % 256 = y.toNat % 256 := by
    have := congrArg BitVec.toNat e
    rw [BitVec.toNat_setWidth, BitVec.toNat_setWidth] at this
    exact this
  rw [BitVec.toInt_eq_toNat_cond, BitVec.toInt_eq_toNat_cond]
  split <;> split <;> omega
theorem sh_bv (X : BitVec 64) (s : Nat) (hs : s ≤ 56) : (X >>> s).toInt % 256 = (X.sshiftRight s).toInt % 256 := lo8 _ _ (fun i hi => by
  rw [BitVec.getLsbD_ushiftRight, BitVec.getLsbD_sshiftRight, decide_eq_false (by omega), if_pos (by omega)]; rfl)
theorem sh_8 (x : Int) (k : Int) (h0 : 0 ≤ k) (h1 : k < 8) : ga_lushr x (8 * k) % 256 = ga_lshr x (8 * k) % 256 := by
  have : k = 0 ∨ k = 1 ∨ k = 2 ∨ k = 3 ∨ k = 4 ∨ k = 5 ∨ k = 6 ∨ k = 7 := by omega
  rcases this with e | e | e | e | e | e | e | e <;> subst e
  · have a : ((Int64.ofInt x).toUInt64 >>> ((Int32.ofInt (8 * 0)).toInt64.toUInt64 &&& Int64.toUInt64 63)).toInt64.toBitVec = (Int64.ofInt x).toBitVec >>> 0 := by
      rw [UInt64.toBitVec_toInt64, UInt64.toBitVec_shiftRight]; rfl
    have b : (Int64.ofInt x >>> ((Int32.ofInt (8 * 0)).toInt64 &&& 63)).toBitVec = (Int64.ofInt x).toBitVec.sshiftRight 0 := by
      rw [Int64.toBitVec_shiftRight]; rfl
    show (((Int64.ofInt x).toUInt64 >>> ((Int32.ofInt (8 * 0)).toInt64.toUInt64 &&& Int64.toUInt64 63)).toInt64.toBitVec).toInt % 256 = ((Int64.ofInt x >>> ((Int32.ofInt (8 * 0)).toInt64 &&& 63)).toBitVec).toInt % 256
    rw [a, b]
    exact sh_bv _ 0 (by decide)
  · have a : ((Int64.ofInt x).toUInt64 >>> ((Int32.ofInt (8 * 1)).toInt64.toUInt64 &&& Int64.toUInt64 63)).toInt64.toBitVec = (Int64.ofInt x).toBitVec >>> 8 := by
      rw [UInt64.toBitVec_toInt64, UInt64.toBitVec_shiftRight]; rfl
    have b : (Int64.ofInt x >>> ((Int32.ofInt (8 * 1)).toInt64 &&& 63)).toBitVec = (Int64.ofInt x).toBitVec.sshiftRight 8 := by
      rw [Int64.toBitVec_shiftRight]; rfl
    show (((Int64.ofInt x).toUInt64 >>> ((Int32.ofInt (8 * 1)).toInt64.toUInt64 &&& Int64.toUInt64 63)).toInt64.toBitVec).toInt % 256 = ((Int64.ofInt x >>> ((Int32.ofInt (8 * 1)).toInt64 &&& 63)).toBitVec).toInt % 256
    rw [a, b]
    exact sh_bv _ 8 (by decide)
  · have a : ((Int64.ofInt x).toUInt64 >>> ((Int32.ofInt (8 * 2)).toInt64.toUInt64 &&& Int64.toUInt64 63)).toInt64.toBitVec = (Int64.ofInt x).toBitVec >>> 16 := by
      rw [UInt64.toBitVec_toInt64, UInt64.toBitVec_shiftRight]; rfl
    have b : (Int64.ofInt x >>> ((Int32.ofInt (8 * 2)).toInt64 &&& 63)).toBitVec = (Int64.ofInt x).toBitVec.sshiftRight 16 := by
      rw [Int64.toBitVec_shiftRight]; rfl
    show (((Int64.ofInt x).toUInt64 >>> ((Int32.ofInt (8 * 2)).toInt64.toUInt64 &&& Int64.toUInt64 63)).toInt64.toBitVec).toInt % 256 = ((Int64.ofInt x >>> ((Int32.ofInt (8 * 2)).toInt64 &&& 63)).toBitVec).toInt % 256
    rw [a, b]
    exact sh_bv _ 16 (by decide)
  · have a : ((Int64.ofInt x).toUInt64 >>> ((Int32.ofInt (8 * 3)).toInt64.toUInt64 &&& Int64.toUInt64 63)).toInt64.toBitVec = (Int64.ofInt x).toBitVec >>> 24 := by
      rw [UInt64.toBitVec_toInt64, UInt64.toBitVec_shiftRight]; rfl
    have b : (Int64.ofInt x >>> ((Int32.ofInt (8 * 3)).toInt64 &&& 63)).toBitVec = (Int64.ofInt x).toBitVec.sshiftRight 24 := by
      rw [Int64.toBitVec_shiftRight]; rfl
    show (((Int64.ofInt x).toUInt64 >>> ((Int32.ofInt (8 * 3)).toInt64.toUInt64 &&& Int64.toUInt64 63)).toInt64.toBitVec).toInt % 256 = ((Int64.ofInt x >>> ((Int32.ofInt (8 * 3)).toInt64 &&& 63)).toBitVec).toInt % 256
    rw [a, b]
    exact sh_bv _ 24 (by decide)
  · have a : ((Int64.ofInt x).toUInt64 >>> ((Int32.ofInt (8 * 4)).toInt64.toUInt64 &&& Int64.toUInt64 63)).toInt64.toBitVec = (Int64.ofInt x).toBitVec >>> 32 := by
      rw [UInt64.toBitVec_toInt64, UInt64.toBitVec_shiftRight]; rfl
    have b : (Int64.ofInt x >>> ((Int32.ofInt (8 * 4)).toInt64 &&& 63)).toBitVec = (Int64.ofInt x).toBitVec.sshiftRight 32 := by
      rw [Int64.toBitVec_shiftRight]; rfl
    show (((Int64.ofInt x).toUInt64 >>> ((Int32.ofInt (8 * 4)).toInt64.toUInt64 &&& Int64.toUInt64 63)).toInt64.toBitVec).toInt % 256 = ((Int64.ofInt x >>> ((Int32.ofInt (8 * 4)).toInt64 &&& 63)).toBitVec).toInt % 256
    rw [a, b]
    exact sh_bv _ 32 (by decide)
  · have a : ((Int64.ofInt x).toUInt64 >>> ((Int32.ofInt (8 * 5)).toInt64.toUInt64 &&& Int64.toUInt64 63)).toInt64.toBitVec = (Int64.ofInt x).toBitVec >>> 40 := by
      rw [UInt64.toBitVec_toInt64, UInt64.toBitVec_shiftRight]; rfl
    have b : (Int64.ofInt x >>> ((Int32.ofInt (8 * 5)).toInt64 &&& 63)).toBitVec = (Int64.ofInt x).toBitVec.sshiftRight 40 := by
      rw [Int64.toBitVec_shiftRight]; rfl
    show (((Int64.ofInt x).toUInt64 >>> ((Int32.ofInt (8 * 5)).toInt64.toUInt64 &&& Int64.toUInt64 63)).toInt64.toBitVec).toInt % 256 = ((Int64.ofInt x >>> ((Int32.ofInt (8 * 5)).toInt64 &&& 63)).toBitVec).toInt % 256
    rw [a, b]
    exact sh_bv _ 40 (by decide)
  · have a : ((Int64.ofInt x).toUInt64 >>> ((Int32.ofInt (8 * 6)).toInt64.toUInt64 &&& Int64.toUInt64 63)).toInt64.toBitVec = (Int64.ofInt x).toBitVec >>> 48 := by
      rw [UInt64.toBitVec_toInt64, UInt64.toBitVec_shiftRight]; rfl
    have b : (Int64.ofInt x >>> ((Int32.ofInt (8 * 6)).toInt64 &&& 63)).toBitVec = (Int64.ofInt x).toBitVec.sshiftRight 48 := by
      rw [Int64.toBitVec_shiftRight]; rfl
    show (((Int64.ofInt x).toUInt64 >>> ((Int32.ofInt (8 * 6)).toInt64.toUInt64 &&& Int64.toUInt64 63)).toInt64.toBitVec).toInt % 256 = ((Int64.ofInt x >>> ((Int32.ofInt (8 * 6)).toInt64 &&& 63)).toBitVec).toInt % 256
    rw [a, b]
    exact sh_bv _ 48 (by decide)
  · have a : ((Int64.ofInt x).toUInt64 >>> ((Int32.ofInt (8 * 7)).toInt64.toUInt64 &&& Int64.toUInt64 63)).toInt64.toBitVec = (Int64.ofInt x).toBitVec >>> 56 := by
      rw [UInt64.toBitVec_toInt64, UInt64.toBitVec_shiftRight]; rfl
    have b : (Int64.ofInt x >>> ((Int32.ofInt (8 * 7)).toInt64 &&& 63)).toBitVec = (Int64.ofInt x).toBitVec.sshiftRight 56 := by
      rw [Int64.toBitVec_shiftRight]; rfl
    show (((Int64.ofInt x).toUInt64 >>> ((Int32.ofInt (8 * 7)).toInt64.toUInt64 &&& Int64.toUInt64 63)).toInt64.toBitVec).toInt % 256 = ((Int64.ofInt x >>> ((Int32.ofInt (8 * 7)).toInt64 &&& 63)).toBitVec).toInt % 256
    rw [a, b]
    exact sh_bv _ 56 (by decide)
theorem by_8 (x : Int) (k : Int) (h0 : 0 ≤ k) (h1 : k < 8) : w8 (w8 (w32 (ga_lshr x (w32 (8 * k))))) = w8 (w8 (w32 (ga_lushr x (w32 (8 * k))))) ∧ -128 ≤ w8 (w8 (w32 (ga_lushr x (w32 (8 * k))))) ∧ w8 (w8 (w32 (ga_lushr x (w32 (8 * k))))) < 128 := by
  rw [w32_ok (x := 8 * k) (by omega)]
  have e := sh_8 x k h0 h1
  obtain ⟨a, ea⟩ : ∃ a, a = ga_lushr x (8 * k) := ⟨_, rfl⟩
  obtain ⟨b, eb⟩ : ∃ b, b = ga_lshr x (8 * k) := ⟨_, rfl⟩
  rw [← ea, ← eb] at e ⊢
  unfold w8 w32
  omega
section
variable {σ τ : ga_S}
def TP (σ τ : ga_S) : Prop := τ fM_tape 0 = σ fX_tape 0 ∧ τ fM_size 0 0 = σ fX_taped 0 0 ∧ (0 ≤ σ fX_taped 0 0 ∧ σ fX_taped 0 0 ≤ 5000) ∧ ∀ i, -128 ≤ σ fX_tape 0 i ∧ σ fX_tape 0 i < 128
theorem fd_l (x : Int) (d d' : Nat) : ∀ (m : Nat) (ρ υ : ga_S), (m : Int) ≤ 8 → TP ρ υ → ρ fX_taped 0 0 + m ≤ 5000 → ∃ v ρ' υ', x_feed_30 d ρ x ((m : Int) - 1) = some (v, ρ') ∧ m_feed_30 d' υ x ((m : Int) - 1) = some (v, υ') ∧ fr [fX_tape, fX_taped] ρ ρ' ∧ fr [fM_tape, fM_size] υ υ' ∧ TP ρ' υ' := by
  intro m
  induction m with
  | zero =>
    intro ρ υ _ T _
    exact ⟨ρ fX_taped 0 0, ρ, υ, by rw [e_x_feed_30, if_pos (by decide)], by rw [e_m_feed_30, if_pos (by decide), T.2.1], fr_refl _ _, fr_refl _ _, T⟩
  | succ m ih =>
    intro ρ υ hm T hr
    obtain ⟨t1, t2, t3, t4⟩ := T
    push_cast at hm hr
    obtain ⟨y1, y2⟩ := by_8 x m (by omega) (by omega)
    obtain ⟨z, ez⟩ : ∃ z, z = w8 (w8 (w32 (ga_lushr x (w32 (8 * (m : Int)))))) := ⟨_, rfl⟩
    rw [← ez] at y1 y2
    obtain ⟨n, en⟩ : ∃ n, n = ρ fX_taped 0 0 := ⟨_, rfl⟩
    rw [← en] at t2 t3 hr
    obtain ⟨ρ1, e1⟩ : ∃ q, q = ga_up (ga_up ρ fX_taped 0 0 (n + 1)) fX_tape 0 n z := ⟨_, rfl⟩
    obtain ⟨υ1, e2⟩ : ∃ q, q = ga_up (ga_up υ fM_tape 0 n z) fM_size 0 0 (n + 1) := ⟨_, rfl⟩
    have f1 : fr [fX_tape, fX_taped] ρ ρ1 := by rw [e1]; exact fr_trans (fr_u (by decide)) (fr_u (by decide))
    have f2 : fr [fM_tape, fM_size] υ υ1 := by rw [e2]; exact fr_trans (fr_u (by decide)) (fr_u (by decide))
    have n1 : ρ1 fX_taped 0 0 = n + 1 := by rw [e1, up_F (by decide), up_eq]
    have tp : ∀ i, ρ1 fX_tape 0 i = if i = n then z else ρ fX_tape 0 i := fun i => by rw [e1, up_at, up_F (by decide)]
    have T1 : TP ρ1 υ1 := by
      refine ⟨?_, by rw [n1, e2, up_eq], by rw [n1]; omega, fun i => ?_⟩
      · funext i
        rw [tp, e2, up_F (by decide), up_at, t1]
      · rw [tp]
        by_cases c : i = n
        · rw [if_pos c]; exact y2
        · rw [if_neg c]; exact t4 i
    obtain ⟨v, ρ', υ', a1, a2, a3, a4, a5⟩ := ih ρ1 υ1 (by omega) T1 (by rw [n1]; omega)
    refine ⟨v, ρ', υ', ?_, ?_, fr_trans f1 a3, fr_trans f2 a4, a5⟩
    · rw [e_x_feed_30, show ((m + 1 : Nat) : Int) - 1 = (m : Int) by push_cast; omega, if_neg (by omega), ← en, ck_ok _ (by omega), w32_ok (x := n + 1) (by omega), ← ez, ← e1, w32_ok (x := (m : Int) + (-1)) (by omega), show (m : Int) + (-1) = (m : Int) - 1 by omega, a1]
    · rw [e_m_feed_30, show ((m + 1 : Nat) : Int) - 1 = (m : Int) by push_cast; omega, if_neg (by omega), t2, ck_ok _ (by omega), w32_ok (x := n + 1) (by omega), y1, ← e2, w32_ok (x := (m : Int) + (-1)) (by omega), show (m : Int) + (-1) = (m : Int) - 1 by omega, a2]
theorem q_feed (A : AP σ τ) (x n : Int) {d : Nat} (hd : 1 ≤ d) : ∃ v σ' τ', c_x_feed d σ x n = some (v, σ') ∧ c_m_feed d τ x n = some (v, τ') ∧ fr [fX_tape, fX_taped] σ σ' ∧ fr [fM_tape, fM_size] τ τ' ∧ AP σ' τ' := by
  obtain ⟨d, rfl⟩ : ∃ e, d = e + 1 := ⟨d - 1, by omega⟩
  have AA := A
  obtain ⟨⟨⟨⟨t1, t2, t3, t4⟩, q2, q3, q4, q5⟩, al, dr, ft⟩, ⟨g, X⟩, O⟩ := A
  rw [e_x_feed, e_m_feed]
  by_cases c1 : n < 1
  · rw [if_pos c1, if_pos c1]; exact ⟨-1, σ, τ, rfl, rfl, fr_refl _ _, fr_refl _ _, AA⟩
  rw [if_neg c1, if_neg c1]
  by_cases c2 : 8 < n
  · rw [if_pos c2, if_pos c2]; exact ⟨-1, σ, τ, rfl, rfl, fr_refl _ _, fr_refl _ _, AA⟩
  rw [if_neg c2, if_neg c2, t2, w32_ok (x := σ fX_taped 0 0 + n) (by omega)]
  by_cases c3 : 5000 < σ fX_taped 0 0 + n
  · rw [if_pos c3, if_pos c3]; exact ⟨-1, σ, τ, rfl, rfl, fr_refl _ _, fr_refl _ _, AA⟩
  rw [if_neg c3, if_neg c3, w32_ok (x := n - 1) (by omega)]
  obtain ⟨v, σ', τ', a1, a2, a3, a4, a5⟩ := fd_l x d d n.toNat σ τ (by omega) ⟨t1, t2, t3, t4⟩ (by omega)
  rw [show ((n.toNat : Nat) : Int) = n by omega] at a1 a2
  refine ⟨v, σ', τ', a1, a2, a3, a4, ⟨⟨a5, ?_, ?_, ?_, ?_⟩, by rw [a3 _ (by decide)]; exact al, by rw [a4 _ (by decide)]; exact dr, by rw [a4 _ (by decide), a3 _ (by decide)]; exact ft⟩, ⟨g, SX_f X a3 (by decide) a4 (by decide)⟩, ORD_f O a3 (by decide)⟩
  · unfold byteR at q2 ⊢
    rw [a3 _ (by decide), a3 _ (by decide), a4 _ (by decide), a4 _ (by decide)]; exact q2
  · unfold rAll at q3 ⊢
    rw [a3 _ (by decide), a3 _ (by decide)]; exact q3
  · unfold rKeys at q4 ⊢
    rw [a3 _ (by decide), a4 _ (by decide)]; exact q4
  · rw [a3 _ (by decide), a3 _ (by decide), a4 _ (by decide), a4 _ (by decide)]; exact q5
end

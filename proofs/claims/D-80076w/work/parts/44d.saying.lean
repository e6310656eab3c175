/-! a text is said, on both sides -/
section
def syC : List Nat := bkL ++ ouC
def syM9 : List Nat := fM_numberLong :: (inM ++ ouM)
theorem u_close {σ : ga_S} {noun p e : Int} {d : Nat} {B : Int → Int} (eB : σ fT_bytes 1 = B) {c : Int} (hc : c < 5000) : ∀ q, 0 ≤ q → q ≤ c → (∀ j, q ≤ j → j < c → B j ≠ 93) → u_say_39 d σ noun p e q = u_say_39 d σ noun p e c := by
  refine rg_ind (n := c) (fun q hq _ h2 _ => ?_) (fun q hq ih h0 h2 h => ?_)
  · rw [show q = c by omega]
  · rw [e_u_say_39, show (0 + 1 : Int) = 1 from rfl, nn_ok _ (by decide), nn_ok _ (by decide), ck_ok _ (by omega), eB, if_neg (h q (Int.le_refl _) hq), w32_ok (by omega)]
    exact ih (by omega) (by omega) (fun j h1 h2 => h j (by omega) h2)
theorem say_l {nk noun e p0 : Int} {B : Int → Int} (h00 : 0 ≤ p0) (hl : e - p0 ≤ 120) (hT : txB B p0 e) {d : Nat} (hd : 9 ≤ d) : ∀ (n : Nat) (p : Int), p0 ≤ p → p ≤ e → e - p ≤ n → ∀ σ τ, AP σ τ → σ fT_bytes 0 = B → e ≤ σ fT_size 0 0 → IVk σ nk noun → kO σ nk → (nk ≠ -1 → τ fM_nounObject 0 0 = noun) → (τ fM_nounObject 0 0 = -1 ↔ nk = -1) → sdV σ B nk e n p = true → ∃ σ' τ', u_say_16 d σ noun p e = u_say_16 d σ' noun e e ∧ m_written_7 d τ p e = some (1, τ') ∧ fr syC σ σ' ∧ fr syM9 τ τ' ∧ AP σ' τ' := by
  obtain ⟨d, rfl⟩ : ∃ e, d = e + 1 := ⟨d - 1, by omega⟩
  have nn1 : ∀ {ρ : Type} (x : Option ρ), ga_nn 1 x = x := fun x => nn_ok _ (by decide)
  intro n
  induction n with
  | zero =>
    intro p h0 hp1 hp σ τ A _ _ _ _ _ _ _
    refine ⟨σ, τ, by rw [show p = e by omega], ?_, fr_refl _ _, fr_refl _ _, A⟩
    rw [e_m_written_7, if_neg (by omega)]
  | succ n ih =>
    intro p h0 hp1 hp σ τ A eB hs hn kN ho1 ho2 hv
    by_cases y : p < e
    · have AA := A
      obtain ⟨⟨Q, al, dry, _⟩, ⟨g, X⟩, _⟩ := A
      obtain ⟨_, ⟨b1, b2, b3, b4, b5, b6⟩, ⟨_, aR, iT⟩, ⟨hk, _⟩, _⟩ := Q
      have e5 : e ≤ 5000 := by omega
      rw [eB] at b1 b2
      -- on from there
      have go : ∀ σ1 τ1 q, fr syC σ σ1 → fr syM9 τ τ1 → AP σ1 τ1 → p < q → q ≤ e → sdV σ B nk e n q = true → ∃ σ' τ', u_say_16 (d + 1) σ1 noun q e = u_say_16 (d + 1) σ' noun e e ∧ m_written_7 (d + 1) τ1 q e = some (1, τ') ∧ fr syC σ σ' ∧ fr syM9 τ τ' ∧ AP σ' τ' := by
        intro σ1 τ1 q f1 f2 A1 hq hq2 sd
        obtain ⟨σ', τ', c1, c2, c3, c4, c5⟩ := ih q (by omega) hq2 (by push_cast at hp; omega) σ1 τ1 A1 (by rw [f1 _ (by decide)]; exact eB) (by rw [f1 _ (by decide)]; exact hs) (by unfold IVk at hn ⊢; rw [f1 fW_objects (by decide), f1 fW_parents (by decide), f1 fW_kindOf (by decide)]; exact hn) (by unfold kO at kN ⊢; rw [f1 fW_kinds (by decide)]; exact kN) (by rw [f2 _ (by decide)]; exact ho1) (by rw [f2 _ (by decide)]; exact ho2) (by rw [sdV_e (fr_mem f1 (by decide)) B nk e n q]; exact sd)
        exact ⟨σ', τ', c1, c2, fr_trans f1 c3, fr_trans f2 c4, c5⟩
      unfold sdV at hv
      rw [if_pos y] at hv
      by_cases z : B p = 93
      · rw [if_pos z] at hv; cases hv
      · rw [if_neg z] at hv
        by_cases w : B p = 91
        · rw [if_pos w] at hv
          have cr := clB_r B e (p + 1)
          obtain ⟨c, ec⟩ : ∃ z, z = clB B e (p + 1) := ⟨_, rfl⟩
          rw [← ec] at cr hv
          have ce := cr.2.1 (by omega)
          by_cases c1 : c = e ∨ B c = 91
          · rw [if_pos c1] at hv; cases hv
          · rw [if_neg c1, Bool.and_eq_true] at hv
            obtain ⟨hb, hv⟩ := hv
            have c2 : c < e := by
              have : c ≠ e := fun v => c1 (Or.inl v)
              omega
            have c3 : B c = 93 := (cr.2.2.1 c2).resolve_right (fun v => c1 (Or.inr v))
            have hM : brN B c (p + 1) (brM B c (p + 1)) := by
              obtain ⟨σ1, M, x1, x2, x3, x4, x5, x6, x7, x8, x9⟩ := s_t_inside (σ := σ) (d := 4) (Nat.le_refl _) (v := 1) (a := p + 1) (n := c) (by decide) aR iT (by omega) (by omega) (by omega)
              rw [b2] at x6 x7
              exact brM_ok (M := M) ⟨x6, x7⟩
            unfold brB at hb
            obtain ⟨M, eM⟩ : ∃ z, z = brM B c (p + 1) := ⟨_, rfl⟩
            rw [← eM] at hb hM
            obtain ⟨τ1, e1⟩ : ∃ x, x = ga_up τ fM_insides 0 0 0 := ⟨_, rfl⟩
            have f1 : fr inM τ τ1 := by rw [e1]; exact fr_u (by decide)
            have b2' : τ1 fM_story 0 = B := by rw [f1 _ (by decide)]; exact b1
            have i1 : τ1 fM_insides 0 0 = 0 := by rw [e1, up_eq]
            obtain ⟨τ2, v1, v2, _⟩ := m_words_in (e := e) (c := c) (a := p + 1) (B := B) (M := M) (d := d) (by omega) (by omega) c2 c3 (by omega) (by omega) (fun q x1 x2 => hT q (by omega) (by omega)) (fun q x1 x2 => cr.2.2.2 q x1 x2) hM (p + 1) (Int.le_refl _) cr.1 0 (Nat.zero_le _) rfl (fun j hj => absurd hj (by omega)) τ1 b2' (by rw [i1]; rfl) (fun j hj => absurd hj (by omega))
            have f2 : fr inM τ τ2 := fr_trans f1 v1
            have ok : okW B c (p + 1) M 0 := Classical.byContradiction fun no => by
              have := okW_n (σ0 := σ) (nk := nk) hM no
              rw [this] at hb; cases hb
            obtain ⟨u1, u2, u3⟩ := v2 ok
            have m64 : (M : Int) ≤ 64 := by
              by_cases m0 : M = 0
              · omega
              · have s2 := sP_2 (B := B) (c := c) (a := p + 1) (by omega) (M - 1) (fun j hj => ok.2 j (Nat.zero_le _) (by omega))
                have s3 := (sP_r (B := B) (x := true) (n := c) (a := p + 1) (by omega) (M - 1)).2.1
                omega
            have wi := WI_of ok m64 u2 u3
            have A2 : AP σ τ2 := AP_f AA (fr_refl [] σ) (by decide +kernel) f2 (by decide +kernel)
            rw [decide_eq_true ok.1, Bool.true_and] at hb
            obtain ⟨σ3, τ3, j1, j2, j3, j4, j5⟩ := br_J A2 (nk := nk) (noun := noun) (c := c) (a := p + 1) (M := M) hn ⟨by rw [f2 _ (by decide)]; exact ho1, by rw [f2 _ (by decide)]; exact ho2⟩ kN (by omega) (by omega) (by omega) (by rw [eB]; exact hM) (by rw [eB]; exact hb) (by rw [eB]; exact wi) (d := d + 1) (by omega)
            obtain ⟨σ', τ', k1, k2, k3, k4, k5⟩ := go σ3 τ3 (c + 1) (fr_sub j3 (by decide)) (fr_trans (fr_sub f2 (by decide)) (fr_sub j4 (by decide))) j5 (by omega) (by omega) hv
            refine ⟨σ', τ', ?_, ?_, k3, k4, k5⟩
            · rw [e_u_say_16, if_pos y, show (0 + 1 : Int) = 1 from rfl, nn1, nn1, ck_ok _ (by omega), b2, if_pos w, u_close b2 (c := c) (by omega) p (by omega) (by omega) (fun j h1 h2 => by
                by_cases jp : j = p
                · rw [jp, w]; decide
                · exact (cr.2.2.2 j (by omega) h2).1), e_u_say_39, show (0 + 1 : Int) = 1 from rfl, nn1, nn1, ck_ok _ (by omega), b2, if_pos c3, w32_ok (by omega), j1, Option.bind_some, w32_ok (by omega)]
              exact k1
            · rw [e_m_written_7, if_pos y, ck_ok _ (by omega), b1, if_neg z, ck_ok _ (by omega), if_pos w, w32_ok (by omega), e_m_words, ← e1, u1, Option.bind_some]
              refine (if_neg (show ¬ c + 1 = -1 by omega)).trans ?_
              show ((c_m_saysInside (d + 1) τ2).bind fun q3 => if q3.1 = 0 then some ((0 : Int), q3.2) else m_written_7 (d + 1) q3.2 (c + 1) e) = _
              rw [j2, Option.bind_some]
              exact (if_neg (show ¬ (1 : Int) = 0 by decide)).trans k2
        · rw [if_neg w] at hv
          obtain ⟨σ1, τ1, a1, a2, f1, f2, J1⟩ := wr_J (OJ_AP AA) (B p) (d := d + 1) (by omega)
          obtain ⟨σ', τ', k1, k2, k3, k4, k5⟩ := go σ1 τ1 (p + 1) (fr_sub f1 (by decide)) (fr_sub f2 (by decide)) (AP_out AA f1 f2 J1) (by omega) (by omega) hv
          refine ⟨σ', τ', ?_, ?_, k3, k4, k5⟩
          · rw [e_u_say_16, if_pos y, show (0 + 1 : Int) = 1 from rfl, nn1, nn1, ck_ok _ (by omega), b2, if_neg w, nn1, nn1, ck_ok _ (by omega), a1, Option.bind_some, w32_ok (by omega)]
            exact k1
          · rw [e_m_written_7, if_pos y, ck_ok _ (by omega), b1, if_neg z, ck_ok _ (by omega), if_neg w, ck_ok _ (by omega), a2, Option.bind_some, w32_ok (by omega)]
            exact k2
    · refine ⟨σ, τ, by rw [show p = e by omega], ?_, fr_refl _ _, fr_refl _ _, A⟩
      rw [e_m_written_7, if_neg y]
/-- a phrase that says a text -/
theorem say_J {σ τ : ga_S} (A : AP σ τ) {nk noun s : Int} (hs : 0 ≤ s) (hn : IVk σ nk noun) (kN : kO σ nk) (ho1 : nk ≠ -1 → τ fM_nounObject 0 0 = noun) (ho2 : τ fM_nounObject 0 0 = -1 ↔ nk = -1) (h1 : 0 ≤ σ fS_length s 0 ∧ σ fS_length s 0 ≤ 120) (h2 : 0 ≤ σ fS_value s 0 ∧ σ fS_value s 0 + σ fS_length s 0 ≤ σ fT_size 0 0) (hT : txB (σ fT_bytes 0) (σ fS_value s 0) (σ fS_value s 0 + σ fS_length s 0)) (hv : sdV σ (σ fT_bytes 0) nk (σ fS_value s 0 + σ fS_length s 0) (σ fS_length s 0).toNat (σ fS_value s 0) = true) {d d' : Nat} (hd : 10 ≤ d) (hd' : 10 ≤ d') : ∃ b σ' τ1 τ', c_u_say d σ s noun = some (0, σ') ∧ c_m_written d' τ (σ fS_value s 0) (σ fS_length s 0) = some (b, τ1) ∧ c_m_put d' τ1 10 = some (0, τ') ∧ fr syC σ σ' ∧ fr syM9 τ τ' ∧ AP σ' τ' := by
  have AA := A
  obtain ⟨⟨Q, _⟩, _⟩ := A
  obtain ⟨_, ⟨b1, b2, b3, b4, b5, b6⟩, _⟩ := Q
  obtain ⟨σ1, τ1, a1, a2, a3, a4, a5⟩ := say_l (nk := nk) (noun := noun) (e := σ fS_value s 0 + σ fS_length s 0) (p0 := σ fS_value s 0) h2.1 (by omega) hT (d := 9) (Nat.le_refl _) (σ fS_length s 0).toNat (σ fS_value s 0) (Int.le_refl _) (by omega) (by omega) σ τ AA rfl h2.2 hn kN ho1 ho2 hv
  obtain ⟨σ2, τ2, c1, c2, c3, c4, c5⟩ := wr_J (OJ_AP a5) 10 (d := 9) (by omega)
  have r1 : u_say_16 9 σ noun (σ fS_value s 0) (σ fS_value s 0 + σ fS_length s 0) = some (0, σ2) := by
    rw [a1, e_u_say_16, if_neg (by omega), c1, Option.bind_some]
  refine ⟨1, σ2, τ1, τ2, ?_, ?_, am_mono c2 (by omega), fr_trans a3 (fr_sub c3 (by decide)), fr_trans a4 (fr_sub c4 (by decide)), AP_out a5 c3 c4 c5⟩
  · refine am_mono (d := 10) ?_ hd
    show c_u_say (9 + 1) σ s noun = _
    rw [e_u_say, nn_ok _ hs, nn_ok _ hs, nn_ok _ hs, w32_ok (by omega)]
    exact r1
  · refine am_mono (d := 10) ?_ hd'
    show c_m_written (9 + 1) τ _ _ = _
    rw [e_m_written, w32_ok (by omega)]
    exact a2
end

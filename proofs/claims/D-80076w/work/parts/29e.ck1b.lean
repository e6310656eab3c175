/-! the check of a command, both sides -/
/-- a good command -/
def CMr (σ0 : ga_S) (B : Int → Int) (p0 e : Int) (ρ τ : ga_S) (X n : Int) : Prop := ρ fR_commandCount 0 0 = n ∧ τ fM_newSize 0 0 = n ∧ (1 ≤ n ∧ n ≤ 8) ∧ (∀ i, 0 ≤ i → i < n → cmW B p0 e ρ τ i) ∧ τ fM_newKind 0 0 = ρ fR_commandKind 0 0 ∧ ((σ0 fW_actionKinds 0 X = -1 ∧ ρ fR_commandSlot 0 0 = -1 ∧ ρ fR_commandKind 0 0 = -1) ∨ (σ0 fW_actionKinds 0 X = -2 ∧ (0 ≤ ρ fR_commandSlot 0 0 ∧ ρ fR_commandSlot 0 0 < n) ∧ ρ fR_commandKind 0 0 = -2) ∨ (0 ≤ σ0 fW_actionKinds 0 X ∧ (0 ≤ ρ fR_commandSlot 0 0 ∧ ρ fR_commandSlot 0 0 < n) ∧ (0 ≤ ρ fR_commandKind 0 0 ∧ ρ fR_commandKind 0 0 < σ0 fW_kinds 0 0) ∧ isB (σ0 fW_parents 0) (ρ fR_commandKind 0 0) (σ0 fW_actionKinds 0 X) = true))
theorem cmW_c {B : Int → Int} {p0 e : Int} {ρ τ ρ' τ' : ga_S} {i : Int} (h : cmW B p0 e ρ τ i) {L M : List Nat} (h1 : fr L ρ ρ') (hL : [fR_commandSlot, fR_commandFrom, fR_commandTo].all (fun F => !(L.contains F)) = true) (h2 : fr M τ τ') (hM : [fM_newWord].all (fun F => !(M.contains F)) = true) : cmW B p0 e ρ' τ' i := by
  unfold cmW at h ⊢
  rw [fr_no h1 hL (F := fR_commandSlot) (by decide), fr_no h1 hL (F := fR_commandFrom) (by decide), fr_no h1 hL (F := fR_commandTo) (by decide), fr_no h2 hM (F := fM_newWord) (by decide)]
  exact h
section
variable {σ τ : ga_S} {f : Int} {N : Nat}
theorem ck_1 (E : E0 σ τ f N) (I : IN σ) (hk : rKeys τ) (eS : τ fM_story 0 = σ fT_bytes 0) (hf : σ fR_fault 0 0 = 0) (hm : τ fM_runs 0 0 ≤ 2600) (hs : σ fR_sort 0 0 = 1) (ht : τ fM_sort 0 0 = 1) (U : uR σ τ f N) (hcm : τ fM_commands 0 0 = σ fW_commands 0 0 ∧ σ fW_commands 0 0 ≤ 20) {d : Nat} (hd : 8 ≤ d) (first : Int) : ∃ σ' τ' c, c_r_check (d + 2) σ = some (0, σ') ∧ c_m_asked (d + 2) τ first = some (0, τ') ∧ KC σ σ' ∧ KM τ τ' ∧ FT σ' c ∧ GT τ' c ∧ fr (a0L ++ fM_newKind :: (cmM ++ ntM)) τ τ' ∧ (c = 1000000 → dN σ (nR σ 0) 8 ≠ -1 ∧ σ fW_commands 0 0 < 20 ∧ σ' fR_kind0 0 0 = dN σ (nR σ 0) 8 ∧ (σ' fR_runFrom = σ fR_runFrom ∧ σ' fR_runTo = σ fR_runTo) ∧ ∃ n, CMr σ (σ fT_bytes 0) (σ fT_places 0 (σ fR_whatAt 0 0) + 1) (σ fT_places 0 (σ fR_whatAt 0 0) + σ fT_lengths 0 (σ fR_whatAt 0 0) - 1) σ' τ' (dN σ (nR σ 0) 8) n) := by
  obtain ⟨K0, F0, _⟩ := k0_ok hf N
  obtain ⟨M0, G0, _⟩ := a0_ok σ τ f N
  obtain ⟨U1, U2, U3, U4, U5, r0⟩ := U
  have R0 := RU_of E.1 r0 hm
  have tR := frB_t R0.2.2.2
  have hN5 := E.1.2.2.1
  have hN5' := E.1.2.1
  have hf0 := E.1.1
  have kf := k0_fr σ
  have af := a0_fr τ
  have wc := e0_c E
  have wc2 := wc.2.1
  have wk := e0_k E
  obtain ⟨W, eW⟩ : ∃ x, x = σ fR_whatAt 0 0 := ⟨_, rfl⟩
  rw [← eW] at U1 U2 U3 U4 ⊢
  have WN : W < N := by
    have := E.1.2.2.2.2.1
    by_cases z : W = N
    · rw [z] at U4; omega
    · omega
  have tk := E.2.1.2.1 W U1 U2
  have t2 := E.2.1.2.2.2.2.2 W U1 WN U4
  have sz := E.2.1.1.1
  obtain ⟨p0, ep0⟩ : ∃ x, x = σ fT_places 0 W + 1 := ⟨_, rfl⟩
  obtain ⟨e, ee⟩ : ∃ x, x = σ fT_places 0 W + σ fT_lengths 0 W - 1 := ⟨_, rfl⟩
  rw [← ep0, ← ee]
  have tx : txB (σ fT_bytes 0) p0 e := fun q x1 x2 => t2.2.2.2 q (by omega) (by omega)
  obtain ⟨X, eX⟩ : ∃ x, x = dN σ (nR σ 0) 8 := ⟨_, rfl⟩
  have eX' : dN σ (nmT σ (σ fR_runFrom 0 0) (σ fR_runTo 0 0)) 8 = X := eX.symm
  have rX := e0_dN E (nR σ 0) 8
  have m8 : mxN σ 8 = σ fW_actions 0 0 := rfl
  rw [← eX] at rX ⊢
  obtain ⟨d, rfl⟩ : ∃ x, d = x + 1 := ⟨d - 1, by omega⟩
  -- the component, up to the text
  obtain ⟨σ2, a1, a2, a3, a4⟩ := k_need E K0 F0 R0.2.2.2 (d := d + 1) (by omega) 8
  rw [eX'] at a1 a4
  obtain ⟨σ3, e3⟩ : ∃ x, x = ga_up σ2 fR_kind0 0 0 X := ⟨_, rfl⟩
  have f3 : fr [fR_kind0] σ2 σ3 := by rw [e3]; exact fr_u (by decide)
  have K3 := KC_f a3 f3 (by decide)
  have F3 := FT_f a4 f3 (by decide)
  obtain ⟨cA, ecA⟩ : ∃ x, x = min (min 1000000 (if X = -1 then cd σ (σ fR_runFrom 0 0) 2 else 1000000)) (if σ fW_commands 0 0 = 20 then cd σ W 0 else 1000000) := ⟨_, rfl⟩
  obtain ⟨σ4, b1, b2, b3, b4⟩ : ∃ σ4, c_r_checkCommand (d + 2) (k0 σ) = r_checkCommand_46 (d + 1) σ4 X ∧ KC σ σ4 ∧ FT σ4 cA ∧ fr ntL σ3 σ4 := by
    rw [e_r_checkCommand, kf fR_runFrom (by decide), kf fR_runTo (by decide), a1]
    simp only [Option.bind_some]
    rw [a3.1 fW_commands (by decide), ← e3, ecA]
    by_cases z : σ fW_commands 0 0 = 20
    · obtain ⟨σy, v1, v2, v3⟩ := k_note E.2.1 hN5 K3 F3 (t := W) (r := 0) (why := 9) ⟨U1, U2⟩ (by omega) (by decide) (d := d + 1) (by omega)
      rw [if_pos z, if_pos z, a2 fR_whatAt (by decide), kf fR_whatAt (by decide), ← eW, v1]
      exact ⟨σy, rfl, KC_f K3 v2 (by decide), v3, v2⟩
    · rw [if_neg z, if_neg z, Int.min_eq_left (FT_le F3)]
      exact ⟨σ3, rfl, K3, F3, fr_refl _ _⟩
  have k4 : σ4 fR_kind0 0 0 = X := by rw [b4 _ (by decide), e3, up_eq]
  have w4 : σ4 fR_whatAt 0 0 = W := by rw [b4 _ (by decide), f3 _ (by decide), a2 _ (by decide), kf _ (by decide), eW]
  obtain ⟨σ5, e5⟩ : ∃ x, x = ga_up (ga_up (ga_up (ga_up σ4 fR_commandCount 0 0 0) fR_commandSlot 0 0 (-1)) fR_commandKind 0 0 (-1)) fR_isDirection 0 0 0 := ⟨_, rfl⟩
  have f5 : fr cmC σ4 σ5 := by rw [e5]; exact fr_trans (fr_trans (fr_trans (fr_u (by decide)) (fr_u (by decide))) (fr_u (by decide))) (fr_u (by decide))
  have f5' : fr [fR_commandCount, fR_commandSlot, fR_commandKind, fR_isDirection] σ4 σ5 := by rw [e5]; exact fr_trans (fr_trans (fr_trans (fr_u (by decide)) (fr_u (by decide))) (fr_u (by decide))) (fr_u (by decide))
  have K5 := KC_f b2 f5' (by decide)
  -- the model, up to the text
  have ca : ∀ G, G ∉ ckM → (a0 τ) G = τ G := M0
  obtain ⟨τ2, u1, u2, u3, u4⟩ := m_need E M0 G0 (t := W) (t' := f + W) (r := 0) (why := 9) (g := if τ fM_commands 0 0 < 20 then 1 else 0) ⟨U1, U2⟩ rfl (by omega) (by decide) (d := d + 1) (by omega)
  obtain ⟨τ3, g3⟩ : ∃ x, x = ga_up (ga_up τ2 fM_newSize 0 0 0) fM_slotWords 0 0 0 := ⟨_, rfl⟩
  have h3 : fr cmM τ2 τ3 := by rw [g3]; exact fr_trans (fr_u (by decide)) (fr_u (by decide))
  have M3 := KM_f u3 h3 (by decide)
  have Q0 : CMq σ (σ fT_bytes 0) p0 e σ5 τ3 0 := by
    refine ⟨?_, ?_, by omega, fun i i0 i1 => by omega, Or.inl ⟨?_, ?_, ?_, ?_⟩⟩
    · rw [e5, up_F (by decide), up_F (by decide), up_F (by decide), up_eq]
    · rw [g3, up_F (by decide), up_eq]
    · rw [e5, up_F (by decide), up_F (by decide), up_eq]
    · rw [g3, up_eq]
    · rw [e5, up_F (by decide), up_eq]
    · rw [e5, up_eq]
  obtain ⟨g, σ6, τ6, c1, c2, c3, c4, c5, c6, c7⟩ := cm_l E I hk eS (p0 := p0) (e := e) (by omega) (by omega) (by omega) tx (d := d) (by omega) (e - p0).toNat p0 (Int.le_refl _) (by omega) (by omega) σ5 τ3 0 K5 M3 Q0
  have F6 := FT_f (FT_f b3 f5 (by decide)) c5 (by decide)
  have w6 : σ6 fR_whatAt 0 0 = W := by rw [c5 _ (by decide), f5 _ (by decide)]; exact w4
  have k6 : σ6 fR_kind0 0 0 = X := by rw [c5 _ (by decide), f5 _ (by decide)]; exact k4
  have runC : r_checkCommand_46 (d + 1) σ4 X = (if b2i g = 0 then r_checkCommand_197 (d + 1) σ6 (b2i g) else if X = -1 then r_checkCommand_197 (d + 1) σ6 (b2i g) else ga_ck X 12 (if σ fW_actionKinds 0 X = -2 then (if σ6 fR_isDirection 0 0 = 0 then r_checkCommand_131 (d + 1) σ6 (σ fW_actionKinds 0 X) (-1) else r_checkCommand_131 (d + 1) σ6 (σ fW_actionKinds 0 X) (-2)) else r_checkCommand_134 (d + 1) σ6 (σ fW_actionKinds 0 X))) := by
    rw [e_r_checkCommand_46, w4, ck_ok _ (by omega), ck_ok _ (by omega), ck_ok _ (by omega), b2.2.1 fT_places (by decide), b2.2.1 fT_lengths (by decide), w32_ok (x := σ fT_places 0 W + 1) (by omega), w32_ok (x := σ fT_places 0 W + σ fT_lengths 0 W) (by omega), w32_ok (x := σ fT_places 0 W + σ fT_lengths 0 W - 1) (by omega), ← ep0, ← ee, e_r_isCommand, ← e5, c1]
    simp only [Option.bind_some]
    rw [c3.1 fW_actionKinds (by decide)]
  -- behind the text: the model
  have G3 : GT τ6 (min 1000000 (if σ fW_commands 0 0 = 20 then cd σ W 0 else 1000000)) := by
    refine GT_f (GT_f ?_ h3 (by decide)) c6 (by decide)
    by_cases z : σ fW_commands 0 0 = 20
    · rw [if_neg (show ¬ τ fM_commands 0 0 < 20 by omega), if_pos rfl] at u4; rw [if_pos z]; exact u4
    · rw [if_pos (show τ fM_commands 0 0 < 20 by omega), if_neg (by decide)] at u4; rw [if_neg z]; exact u4
  have mr := m_meansRun E c4 R0.2.2.2 R0.1 R0.2.1 R0.2.2.1 (d := d + 1) (by omega) 11
  rw [mN_dN (s := 8) (ms := 11) (by omega), eX'] at mr
  obtain ⟨τ7, n1, n2, n3, n4⟩ := m_need E c4 G3 (t := σ fR_runFrom 0 0) (t' := f + σ fR_runFrom 0 0) (r := 2) (why := 4) (g := if X = -1 then 0 else 1) tR rfl (by omega) (by decide) (d := d + 1) (by omega)
  have G7 : GT τ7 cA := by
    rw [ecA]
    have em : min (min 1000000 (if X = -1 then cd σ (σ fR_runFrom 0 0) 2 else 1000000)) (if σ fW_commands 0 0 = 20 then cd σ W 0 else 1000000) = min (min 1000000 (if σ fW_commands 0 0 = 20 then cd σ W 0 else 1000000)) (if X = -1 then cd σ (σ fR_runFrom 0 0) 2 else 1000000) := by omega
    rw [em]
    by_cases z : X = -1
    · rw [if_pos z, if_pos (show (0 : Int) = 0 from rfl)] at n4; rw [if_pos z]; exact n4
    · rw [if_neg z, if_neg (show ¬ (1 : Int) = 0 by decide)] at n4; rw [if_neg z]; exact n4
  obtain ⟨τ8, g8⟩ : ∃ x, x = ga_up τ7 fM_newKind 0 0 (-1) := ⟨_, rfl⟩
  have h8 : fr [fM_newKind] τ7 τ8 := by rw [g8]; exact fr_u (by decide)
  have M8 := KM_f n3 h8 (by decide)
  have fr8 : fr (a0L ++ fM_newKind :: (cmM ++ ntM)) τ τ8 := fr_trans (fr_sub af (by decide)) (fr_trans (fr_sub u2 (by decide)) (fr_trans (fr_sub h3 (by decide)) (fr_trans (fr_sub c6 (by decide)) (fr_trans (fr_sub n2 (by decide)) (fr_sub h8 (by decide))))))
  -- the last note
  have lastC : ∀ (b : Bool) (ρ : ga_S), KC σ ρ → FT ρ cA → ρ fR_whatAt 0 0 = W → ∃ ρ', r_checkCommand_197 (d + 1) ρ (b2i b) = some (0, ρ') ∧ KC σ ρ' ∧ FT ρ' (min cA (if b = true then 1000000 else cd σ W 4)) ∧ fr ntL ρ ρ' := by
    intro b ρ Kρ Fρ wρ
    rw [e_r_checkCommand_197]
    cases b with
    | true =>
      rw [if_neg b2i_n, if_pos rfl, Int.min_eq_left (FT_le Fρ)]
      exact ⟨ρ, rfl, Kρ, Fρ, fr_refl _ _⟩
    | false =>
      obtain ⟨σy, v1, v2, v3⟩ := k_note E.2.1 hN5 Kρ Fρ (t := W) (r := 4) (why := 8) ⟨U1, U2⟩ (by omega) (by decide) (d := d + 1) (by omega)
      rw [if_pos b2i_f, if_neg (by decide), wρ, v1]
      exact ⟨σy, rfl, KC_f Kρ v2 (by decide), v3, v2⟩
  have lastM : ∀ (b : Bool) (ρ : ga_S), KM τ ρ → GT ρ cA → ∃ ρ', m_askCommand_295 (d + 1) ρ (b2i b) = some (0, ρ') ∧ KM τ ρ' ∧ GT ρ' (min cA (if b = true then 1000000 else cd σ W 4)) ∧ fr ntM ρ ρ' := by
    intro b ρ Kρ Fρ
    obtain ⟨ρ', v1, v2, v3, v4⟩ := m_need E Kρ Fρ (t := W) (t' := f + W) (r := 4) (why := 8) (g := b2i b) ⟨U1, U2⟩ rfl (by omega) (by decide) (d := d + 1) (by omega)
    refine ⟨ρ', ?_, v3, ?_, v2⟩
    · rw [e_m_askCommand_295, Kρ fM_textAt (by decide), U3, v1]; rfl
    · cases b with
      | true => rw [if_neg b2i_n] at v4; rw [if_pos rfl]; exact v4
      | false => rw [if_pos b2i_f] at v4; rw [if_neg (by decide)]; exact v4
  have topC : ∀ ρ, r_checkCommand_46 (d + 1) σ4 X = some (0, ρ) → c_r_check (d + 1 + 2) σ = some (0, ρ) := by
    intro ρ h
    rw [e_r_check, hs]
    iterate 1 rw [if_neg (by decide)]
    rw [if_pos rfl]
    show ((c_r_checkCommand (d + 2) (k0 σ)).bind _) = _
    rw [b1, h]
    rfl
  have topM : ∀ ρ, (if b2i g = 0 then m_askCommand_295 (d + 1) τ8 (b2i g) else if X = -1 then m_askCommand_295 (d + 1) τ8 (b2i g) else ga_ck X 12 (if τ7 fM_actionKind 0 X = -1 then (if τ7 fM_slotWords 0 0 = 0 then m_askCommand_114 (d + 1) τ8 1 else m_askCommand_114 (d + 1) τ8 0) else ga_ck X 12 (if τ7 fM_actionKind 0 X = -2 then (if τ7 fM_slotWords 0 0 = 1 then (c_m_packed (d + 1) τ8 30).bind (fun q5 => if ga_lcmp (τ7 fM_slotWord 0 0) q5.1 = 0 then m_askCommand_158 (d + 1) q5.2 1 else m_askCommand_157 (d + 1) q5.2) else m_askCommand_157 (d + 1) τ8) else if 3 < τ7 fM_slotWords 0 0 then m_askCommand_183 (d + 1) τ8 X else if τ7 fM_slotWords 0 0 = 0 then m_askCommand_183 (d + 1) τ8 X else if 1 < τ7 fM_slotWords 0 0 then m_askCommand_212 (d + 1) τ8 X (τ7 fM_slotWord 0 1) (τ7 fM_slotWord 0 0) else m_askCommand_212 (d + 1) τ8 X 0 (τ7 fM_slotWord 0 0)))) = some (0, ρ) → c_m_asked (d + 1 + 2) τ first = some (0, ρ) := by
    intro ρ h
    have s68 : ∀ s0, s0 = (if X = -1 then (0 : Int) else 1) → m_askCommand_68 (d + 1) τ6 (b2i g) X s0 = some (0, ρ) := by
      intro s0 es
      rw [e_m_askCommand_68, es, c4 fM_runFrom (by decide), R0.2.1, n1]
      simp only [Option.bind_some]
      rw [← g8]
      exact h
    have run : c_m_askCommand (d + 2) (a0 τ) = some (0, ρ) := by
      rw [e_m_askCommand, ca fM_commands (by decide), if_app (m_askCommand_15 (d + 1) (a0 τ)), e_m_askCommand_15, ca fM_textAt (by decide), U3, u1]
      simp only [Option.bind_some]
      rw [u3 fM_textAt (by decide), U3, ck_ok _ (by omega), ck_ok _ (by omega), u3 fM_place (by decide), tk.2.2.2, u3 fM_length (by decide), t2.2.2.1, w32_ok (by omega), ← ep0, e_m_isCommand, ← g3, show p0 + (σ fT_lengths 0 W - 2) = e by omega, w32_ok (by omega), c2]
      simp only [Option.bind_some]
      rw [mr]
      simp only [Option.bind_some]
      by_cases z : X = -1
      · rw [if_pos z]; exact s68 0 (by rw [if_pos z])
      · rw [if_neg z]; exact s68 1 (by rw [if_neg z])
    rw [e_m_asked, ht]
    iterate 1 rw [if_neg (by decide)]
    rw [if_pos rfl]
    show ((c_m_askCommand (d + 2) (a0 τ)).bind _) = _
    rw [run]
    rfl
  have cW4 := cd_r E.2.1 (t := W) (r := 4) (by omega) (by omega)
  have cW0 := cd_r E.2.1 (t := W) (r := 0) (by omega) (by omega)
  have cR := cd_r E.2.1 tR (r := 2) (by omega)
  have zX : cA = 1000000 → X ≠ -1 ∧ σ fW_commands 0 0 ≠ 20 := by
    intro y
    rw [ecA] at y
    constructor
    · intro z; rw [if_pos z] at y; omega
    · intro z; rw [if_pos z] at y; omega
  have G8 := GT_f G7 h8 (by decide)
  by_cases simple : g = false ∨ X = -1
  · obtain ⟨ρc, x1, x2, x3, x4⟩ := lastC g σ6 c3 F6 w6
    obtain ⟨ρm, y1, y2, y3, y4⟩ := lastM g τ8 M8 G8
    refine ⟨ρc, ρm, _, topC ρc ?_, topM ρm ?_, x2, y2, x3, y3, fr_trans fr8 (fr_sub y4 (by decide)), fun z => ?_⟩
    · rw [runC]
      cases hg : g with
      | false => rw [hg] at x1; rw [if_pos b2i_f]; exact x1
      | true =>
        rw [hg] at x1
        rw [if_neg b2i_n, if_pos (simple.resolve_left (fun v => by rw [hg] at v; cases v))]; exact x1
    · cases hg : g with
      | false => rw [hg] at y1; rw [if_pos b2i_f]; exact y1
      | true =>
        rw [hg] at y1
        rw [if_neg b2i_n, if_pos (simple.resolve_left (fun v => by rw [hg] at v; cases v))]; exact y1
    · exfalso
      rcases simple with hg | hx
      · rw [hg, if_neg (by decide)] at z; omega
      · have := (zX (by omega)).1
        exact this hx
  · have hg : g = true := by
      cases hg : g with
      | true => rfl
      | false => exact absurd (Or.inl hg) simple
    have hX : X ≠ -1 := fun v => simple (Or.inr v)
    obtain ⟨n, n0, Q⟩ := c7 hg
    obtain ⟨Q1, Q2, Q3, Q4, Q5⟩ := Q
    have ar := wc.2.2.2 X (by omega) (by omega)
    have ak : τ7 fM_actionKind 0 X = σ fW_actionKinds 0 X := by rw [n3 _ (by decide)]; exact ar.2.2
    have sw : τ7 fM_slotWords 0 0 = τ6 fM_slotWords 0 0 := by rw [n2 _ (by decide)]
    have sv : τ7 fM_slotWord = τ6 fM_slotWord := n2 _ (by decide)
    rw [hg] at runC topM
    rw [if_neg b2i_n, if_neg hX, ck_ok _ (by omega)] at runC
    rw [ak, sw, sv] at topM
    rw [if_neg b2i_n, if_neg hX, ck_ok _ (by omega), ck_ok _ (by omega)] at topM
    have c68 : fr [fM_newKind, fM_bestFault, fM_bestPlace, fM_bestRank] τ6 τ8 := fr_trans (fr_sub n2 (by decide)) (fr_sub h8 (by decide))
    -- the end, where the truth value and the kinds are known
    have done : ∀ (b : Bool) (σ7 τ9 : ga_S) (kd : Int), fr [fR_commandKind] σ6 σ7 → τ9 = ga_up τ8 fM_newKind 0 0 kd → r_checkCommand_46 (d + 1) σ4 X = r_checkCommand_197 (d + 1) σ7 (b2i b) → (∀ ρ, m_askCommand_295 (d + 1) τ9 (b2i b) = some (0, ρ) → c_m_asked (d + 1 + 2) τ first = some (0, ρ)) → (b = true → σ7 fR_commandKind 0 0 = kd ∧ ((σ fW_actionKinds 0 X = -1 ∧ σ7 fR_commandSlot 0 0 = -1 ∧ σ7 fR_commandKind 0 0 = -1) ∨ (σ fW_actionKinds 0 X = -2 ∧ (0 ≤ σ7 fR_commandSlot 0 0 ∧ σ7 fR_commandSlot 0 0 < n) ∧ σ7 fR_commandKind 0 0 = -2) ∨ (0 ≤ σ fW_actionKinds 0 X ∧ (0 ≤ σ7 fR_commandSlot 0 0 ∧ σ7 fR_commandSlot 0 0 < n) ∧ (0 ≤ σ7 fR_commandKind 0 0 ∧ σ7 fR_commandKind 0 0 < σ fW_kinds 0 0) ∧ isB (σ fW_parents 0) (σ7 fR_commandKind 0 0) (σ fW_actionKinds 0 X) = true))) → ∃ σ' τ' c, c_r_check (d + 1 + 2) σ = some (0, σ') ∧ c_m_asked (d + 1 + 2) τ first = some (0, τ') ∧ KC σ σ' ∧ KM τ τ' ∧ FT σ' c ∧ GT τ' c ∧ fr (a0L ++ fM_newKind :: (cmM ++ ntM)) τ τ' ∧ (c = 1000000 → X ≠ -1 ∧ σ fW_commands 0 0 < 20 ∧ σ' fR_kind0 0 0 = X ∧ (σ' fR_runFrom = σ fR_runFrom ∧ σ' fR_runTo = σ fR_runTo) ∧ ∃ n, CMr σ (σ fT_bytes 0) p0 e σ' τ' X n) := by
      intro b σ7 τ9 kd f7 e9 rc rm good
      have h9 : fr [fM_newKind] τ8 τ9 := by rw [e9]; exact fr_u (by decide)
      obtain ⟨ρc, x1, x2, x3, x4⟩ := lastC b σ7 (KC_f c3 f7 (by decide)) (FT_f F6 f7 (by decide)) (by rw [f7 _ (by decide)]; exact w6)
      obtain ⟨ρm, y1, y2, y3, y4⟩ := lastM b τ9 (KM_f M8 h9 (by decide)) (GT_f G8 h9 (by decide))
      refine ⟨ρc, ρm, _, topC ρc (by rw [rc, x1]), rm ρm y1, x2, y2, x3, y3, fr_trans fr8 (fr_trans (fr_sub h9 (by decide)) (fr_sub y4 (by decide))), fun z => ?_⟩
      have hb : b = true := by
        cases hb : b with
        | true => rfl
        | false => rw [hb, if_neg (by decide)] at z; omega
      have zz := zX (by omega)
      obtain ⟨gk, gd⟩ := good hb
      have F67 : fr (fR_commandKind :: ntL) σ6 ρc := fr_trans (fr_sub f7 (by decide)) (fr_sub x4 (by decide))
      have G69 : fr [fM_newKind, fM_bestFault, fM_bestPlace, fM_bestRank] τ6 ρm := fr_trans c68 (fr_trans (fr_sub h9 (by decide)) (fr_sub y4 (by decide)))
      refine ⟨hX, by omega, by rw [F67 _ (by decide)]; exact k6, ⟨by rw [F67 _ (by decide), c5 _ (by decide), f5 _ (by decide), b4 _ (by decide), f3 _ (by decide), a2 _ (by decide), kf _ (by decide)], by rw [F67 _ (by decide), c5 _ (by decide), f5 _ (by decide), b4 _ (by decide), f3 _ (by decide), a2 _ (by decide), kf _ (by decide)]⟩, n, by rw [F67 _ (by decide)]; exact Q1, by rw [G69 _ (by decide)]; exact Q2, by omega, fun i i0 i1 => cmW_c (Q4 i i0 i1) F67 (by decide) G69 (by decide), ?_, ?_⟩
      · rw [y4 _ (by decide), e9, up_eq, x4 _ (by decide)]; exact gk.symm
      · rw [x4 fR_commandSlot (by decide), x4 fR_commandKind (by decide)]
        exact gd
    by_cases k1 : σ fW_actionKinds 0 X = -1
    · -- of nothing
      rw [k1, if_neg (by decide)] at runC
      rw [if_pos k1] at topM
      have t8 : τ8 = ga_up τ8 fM_newKind 0 0 (-1) := by rw [g8, up_up]
      have sl : σ6 fR_commandSlot 0 0 = -1 ↔ τ6 fM_slotWords 0 0 = 0 := by
        rcases Q5 with s | ⟨s0, c, a, M, _, m0, s1, _⟩
        · exact ⟨fun _ => s.2.1, fun _ => s.1⟩
        · exact ⟨fun v => by omega, fun v => by omega⟩
      refine done (decide (σ6 fR_commandSlot 0 0 = -1)) σ6 τ8 (-1) (fr_refl _ _) t8 ?_ ?_ ?_
      · rw [runC, e_r_checkCommand_134, if_pos rfl]
        by_cases z : σ6 fR_commandSlot 0 0 = -1
        · rw [if_pos z, decide_eq_true z, e_r_checkCommand_196]; rfl
        · rw [if_neg z, decide_eq_false z, e_r_checkCommand_196]; rfl
      · intro ρ h
        refine topM ρ ?_
        by_cases z : σ6 fR_commandSlot 0 0 = -1
        · rw [decide_eq_true z] at h
          rw [if_pos (sl.mp z), e_m_askCommand_114]; exact h
        · rw [decide_eq_false z] at h
          rw [if_neg (fun v => z (sl.mpr v)), e_m_askCommand_114]; exact h
      · intro z
        have z := of_decide_eq_true z
        have ck : σ6 fR_commandKind 0 0 = -1 := by
          rcases Q5 with s | ⟨s0, _⟩
          · exact s.2.2.1
          · omega
        exact ⟨ck, Or.inl ⟨k1, z, ck⟩⟩
    · rw [if_neg k1] at topM
      by_cases k2 : σ fW_actionKinds 0 X = -2
      · -- of directions
        rw [if_pos k2, k2] at runC
        rw [if_pos k2] at topM
        have dr := cm_dir Q5
        obtain ⟨b, eb⟩ : ∃ b : Bool, b = decide (τ6 fM_slotWords 0 0 = 1 ∧ τ6 fM_slotWord 0 0 = pack dirW) := ⟨_, rfl⟩
        have dr' : σ6 fR_isDirection 0 0 = b2i b := by
          rw [dr, eb]
          by_cases z : τ6 fM_slotWords 0 0 = 1 ∧ τ6 fM_slotWord 0 0 = pack dirW
          · rw [if_pos z, decide_eq_true z]; rfl
          · rw [if_neg z, decide_eq_false z]; rfl
        obtain ⟨σ7, e7⟩ : ∃ x, x = ga_up σ6 fR_commandKind 0 0 (if b = true then -2 else -1) := ⟨_, rfl⟩
        have f7 : fr [fR_commandKind] σ6 σ7 := by rw [e7]; exact fr_u (by decide)
        refine done b σ7 (ga_up τ8 fM_newKind 0 0 (-2)) (-2) f7 rfl ?_ ?_ ?_
        · have s134 : r_checkCommand_134 (d + 1) σ7 (-2) = r_checkCommand_197 (d + 1) σ7 (b2i b) := by
            rw [e_r_checkCommand_134, if_neg (by decide), if_pos rfl, f7 fR_isDirection (by decide), dr', e_r_checkCommand_196]
          rw [runC, dr']
          cases b with
          | true => rw [if_neg b2i_n, e_r_checkCommand_131]; rw [if_pos rfl] at e7; rw [← e7, s134]
          | false => rw [if_pos b2i_f, e_r_checkCommand_131]; rw [if_neg (by decide)] at e7; rw [← e7, s134]
        · intro ρ h
          refine topM ρ ?_
          by_cases z1 : τ6 fM_slotWords 0 0 = 1
          · rw [if_pos z1, s_m_packed (by omega)]
            simp only [Option.bind_some]
            by_cases z2 : τ6 fM_slotWord 0 0 = pack dirW
            · rw [eb, decide_eq_true ⟨z1, z2⟩] at h
              rw [if_pos (by unfold ga_lcmp; rw [z2]; simp), e_m_askCommand_158]; exact h
            · rw [eb, decide_eq_false (fun v => z2 v.2)] at h
              rw [if_neg (fun v => z2 (lcmp_0.mp v)), e_m_askCommand_157, e_m_askCommand_158]; exact h
          · rw [eb, decide_eq_false (fun v => z1 v.1)] at h
            rw [if_neg z1, e_m_askCommand_157, e_m_askCommand_158]; exact h
        · intro z
          have ck : σ7 fR_commandKind 0 0 = -2 := by rw [e7, up_eq, z, if_pos rfl]
          refine ⟨ck, Or.inr (Or.inl ⟨k2, ?_, ck⟩)⟩
          rw [f7 fR_commandSlot (by decide)]
          rw [z] at eb
          have := (of_decide_eq_true eb.symm).1
          rcases Q5 with s | ⟨s0, _⟩
          · have := s.2.1; omega
          · exact s0
      · -- of a kind
        rw [if_neg k2] at runC topM
        have k0 : 0 ≤ σ fW_actionKinds 0 X := by omega
        obtain ⟨b, eb⟩ : ∃ b : Bool, b = (decide (σ6 fR_commandKind 0 0 ≠ -1) && isB (σ fW_parents 0) (σ6 fR_commandKind 0 0) (σ fW_actionKinds 0 X)) := ⟨_, rfl⟩
        have S8 : cmS σ (σ fT_bytes 0) σ6 τ8 n := by
          unfold cmS at Q5 ⊢
          rw [c68 fM_slotWords (by decide), c68 fM_slotWord (by decide)]
          exact Q5
        have mk := m_askK E M8 S8 (X := X) ⟨by omega, by omega⟩ (d := d + 1) (by omega)
        rw [c68 fM_slotWords (by decide), c68 fM_slotWord (by decide), ← eb] at mk
        have ckR : σ6 fR_commandKind 0 0 = -1 ∨ (0 ≤ σ6 fR_commandKind 0 0 ∧ σ6 fR_commandKind 0 0 < σ fW_kinds 0 0) := by
          rcases Q5 with s | ⟨s0, c, a, M, _, m0, s1, s2, s3, _⟩
          · exact Or.inl s.2.2.1
          · have r := e0_dN E (nx (σ fT_bytes 0) c a 0 M) 0
            have m0 : mxN σ 0 = σ fW_kinds 0 0 := rfl
            rw [← s3] at r
            omega
        refine done b σ6 _ (if b = true then σ6 fR_commandKind 0 0 else -1) (fr_refl _ _) rfl ?_ ?_ ?_
        · rw [runC, e_r_checkCommand_134, if_neg k1, if_neg k2, eb]
          by_cases z : σ6 fR_commandKind 0 0 = -1
          · rw [if_pos z, decide_eq_false (p := σ6 fR_commandKind 0 0 ≠ -1) (fun v => v z), Bool.false_and, e_r_checkCommand_195, e_r_checkCommand_196]; rfl
          · have hFO : FO (σ6 fW_parents 0) (σ fW_kinds 0 0) := by rw [c3.1 _ (by decide)]; exact wk.1
            rw [if_neg z, s_w_isBelow hFO (by omega) _ (by omega) (by omega), c3.1 fW_parents (by decide), decide_eq_true (p := σ6 fR_commandKind 0 0 ≠ -1) z, Bool.true_and]
            simp only [Option.bind_some]
            cases isB (σ fW_parents 0) (σ6 fR_commandKind 0 0) (σ fW_actionKinds 0 X) with
            | false => rw [if_pos b2i_f, e_r_checkCommand_195, e_r_checkCommand_196]; rfl
            | true => rw [if_neg b2i_n, e_r_checkCommand_196]; rfl
        · intro ρ h
          exact topM ρ (by rw [mk]; exact h)
        · intro z
          rw [z, if_pos rfl]
          rw [z] at eb
          have e2 := eb.symm
          simp only [Bool.and_eq_true, decide_eq_true_eq] at e2
          refine ⟨rfl, Or.inr (Or.inr ⟨k0, ?_, ckR.resolve_left e2.1, e2.2⟩)⟩
          rcases Q5 with s | ⟨s0, _⟩
          · exact absurd s.2.2.1 e2.1
          · exact s0
end

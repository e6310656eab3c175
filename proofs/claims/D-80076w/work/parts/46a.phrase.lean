/-! a turn, on both sides: one phrase -/
def tuC : List Nat := wpC ++ ouC ++ bkL ++ [fU_phrases, fU_ends, fU_stops, fU_within]
def tuM : List Nat := wpM ++ ouM ++ inM ++ [fM_nounObject, fM_done, fM_isEnded]
def roF : List Nat := sdF ++ [fW_objects, fW_kinds, fW_relations, fW_adjectives, fW_adjectiveKinds, fW_contraries, fW_properties, fW_values, fW_valueTypes, fW_propertyTypes, fW_actions, fW_actionKinds, fT_size, fT_bytes]
/-- the state of a turn -/
def TJ (σ τ : ga_S) : Prop := AP σ τ ∧ (τ fM_done 0 0 = σ fU_phrases 0 0 ∧ 0 ≤ σ fU_phrases 0 0 ∧ σ fU_phrases 0 0 ≤ 300) ∧ (τ fM_isEnded 0 0 = σ fU_ends 0 0 ∧ (σ fU_ends 0 0 = 0 ∨ σ fU_ends 0 0 = 1)) ∧ σ fU_stops 0 0 = 0
def nOk (σ : ga_S) (a noun : Int) : Prop := (0 ≤ σ fW_actionKinds 0 a → (0 ≤ noun ∧ noun < σ fW_objects 0 0) ∧ isB (σ fW_parents 0) (σ fW_kindOf 0 noun) (σ fW_actionKinds 0 a) = true) ∧ (σ fW_actionKinds 0 a = -2 → 0 ≤ noun ∧ noun < 6)
/-- an action that is tried at a depth, on both sides -/
def AJ2 (d d' : Nat) (w : Int) : Prop := ∀ σ τ, TJ σ τ → σ fU_within 0 0 = w → ∀ a noun, (0 ≤ a ∧ a < σ fW_actions 0 0) → nOk σ a noun → ∃ v v' σ' τ', c_u_act d σ a noun = some (v, σ') ∧ c_m_action d' τ a noun w = some (v', τ') ∧ ((σ' fU_ends 0 0 = 0 → v = v') ∧ 0 ≤ v) ∧ fr tuC σ σ' ∧ fr tuM τ τ' ∧ TJ σ' τ' ∧ σ' fU_within 0 0 = w
section
variable {σ τ σ0 σ1 τ1 : ga_S}
theorem TJ_of (T : TJ σ τ) {L M : List Nat} (f1 : fr L σ σ1) (hL : [fU_phrases, fU_ends, fU_stops].all (fun F => !(L.contains F)) = true) (f2 : fr M τ τ1) (hM : [fM_done, fM_isEnded].all (fun F => !(M.contains F)) = true) (A : AP σ1 τ1) : TJ σ1 τ1 := by
  obtain ⟨_, t1, t2, t3⟩ := T
  unfold TJ
  rw [fr_no f1 hL (F := fU_phrases) (by decide), fr_no f1 hL (F := fU_ends) (by decide), fr_no f1 hL (F := fU_stops) (by decide), fr_no f2 hM (F := fM_done) (by decide), fr_no f2 hM (F := fM_isEnded) (by decide)]
  exact ⟨A, t1, t2, t3⟩
theorem stT_e (h : ∀ F, F ∈ roF → σ1 F = σ0 F) {ik nk s q : Int} {now : Bool} (T : stT σ0 ik nk now σ τ s q) : stT σ1 ik nk now σ τ s q := by
  unfold stT thO kdT fitA own at T ⊢
  rw [h fW_objects (by decide), h fW_relations (by decide), h fW_adjectives (by decide), h fW_adjectiveKinds (by decide), h fW_contraries (by decide), h fW_properties (by decide), h fW_values (by decide), h fW_valueTypes (by decide), h fW_propertyTypes (by decide), h fW_parents (by decide), h fW_kindOf (by decide), h fW_propertyKinds (by decide), h fT_size (by decide), h fT_bytes (by decide)]
  exact T
theorem stP_e (h : ∀ F, F ∈ roF → σ1 F = σ0 F) {ik nk s q x : Int} (P : stP σ0 ik nk σ τ s q x) : stP σ1 ik nk σ τ s q x := by
  obtain ⟨p0, P⟩ := P
  refine ⟨p0, ?_⟩
  have e2 : ∀ F, F ∈ sdF → σ1 F = σ0 F := fun F hF => h F (List.mem_append_left _ hF)
  rcases P with p | p | p | p | p | p
  · left
    obtain ⟨a1, a2, a3, a4, a5, a6, a7, a8⟩ := p
    rw [h fT_size (by decide), h fT_bytes (by decide)]
    exact ⟨a1, a2, a3, a4, a5, a6, a7, by rw [sdV_e e2]; exact a8⟩
  · exact Or.inr (Or.inl ⟨p.1, stT_e h p.2.1, p.2.2⟩)
  · refine Or.inr (Or.inr (Or.inl ?_))
    unfold thO kdT at p ⊢
    rw [h fW_objects (by decide), h fW_parents (by decide), h fW_kindOf (by decide)]
    exact p
  · refine Or.inr (Or.inr (Or.inr (Or.inl ?_)))
    unfold thO kdT own at p ⊢
    rw [h fW_objects (by decide), h fW_properties (by decide), h fW_parents (by decide), h fW_kindOf (by decide), h fW_propertyKinds (by decide), h fW_propertyTypes (by decide)]
    exact p
  · exact Or.inr (Or.inr (Or.inr (Or.inr (Or.inl p))))
  · refine Or.inr (Or.inr (Or.inr (Or.inr (Or.inr ?_))))
    unfold thO at p ⊢
    rw [h fW_objects (by decide), h fW_actions (by decide), h fW_actionKinds (by decide)]
    exact p
/-- what the model does of a phrase -/
def PM (d : Nat) (τ : ga_S) (noun w q x : Int) (τ' : ga_S) : Prop :=
  (τ fM_qPhrase 0 x = 0 ∧ ∃ b τ1, c_m_written d (ga_up τ fM_nounObject 0 0 noun) (τ fM_qWhat 0 q) (τ fM_qLong 0 q) = some (b, τ1) ∧ c_m_put d τ1 10 = some (0, τ')) ∨
  (τ fM_qPhrase 0 x = 1 ∧ c_m_nows d τ q noun = some (0, τ')) ∨
  (τ fM_qPhrase 0 x = 2 ∧ ∃ a b, c_m_thingIs d τ (τ fM_qThing 0 q) (-1) noun = some (a, τ) ∧ c_m_thingIs d τ (τ fM_qOther 0 q) (-1) noun = some (b, τ) ∧ c_m_moves d τ a b = some (0, τ')) ∨
  (τ fM_qPhrase 0 x = 3 ∧ c_m_adds d τ q noun (τ fM_qWhat 0 q) = some (0, τ')) ∨
  (τ fM_qPhrase 0 x = 4 ∧ c_m_adds d τ q noun (w32 (-(τ fM_qWhat 0 q))) = some (0, τ')) ∨
  (τ fM_qPhrase 0 x = 5 ∧ c_m_tries d τ q noun w = some (0, τ'))
theorem phr_J (T : TJ σ τ) {w : Int} (hw0 : σ fU_within 0 0 = w) (hw : 0 ≤ w ∧ w ≤ 8) {nk noun noun' s q x : Int} (hs : 0 ≤ s) (hq : 0 ≤ q ∧ q < 2400) (P : stP σ (-1) nk σ τ s q x) (hn : IVk σ nk noun) (kN : kO σ nk) (he : nk ≠ -1 → noun' = noun) (he2 : noun' = -1 ↔ nk = -1) {d d' : Nat} (hd : 11 ≤ d) (hd' : 11 ≤ d') (H : w < 8 → AJ2 d d' (w + 1)) : (τ fM_qPhrase 0 x = 6 ∧ c_u_phrase (d + 2) σ s noun = some (0, ga_up σ fU_stops 0 0 1)) ∨ ∃ σ' τ', c_u_phrase (d + 2) σ s noun = some (0, σ') ∧ PM (d' + 1) τ noun' w q x τ' ∧ fr tuC σ σ' ∧ fr tuM τ τ' ∧ TJ σ' τ' ∧ σ' fU_within 0 0 = w := by
  have TT := T
  obtain ⟨A, t1, t2, t3⟩ := T
  have AA := A
  obtain ⟨_, ⟨g, X⟩, _⟩ := A
  have W := X.1
  have o24 := W.2.1.2.1
  obtain ⟨p0, P⟩ := P
  -- phrases that change what is said or the world
  have fin : ∀ (L M : List Nat) (σ' τ' : ga_S), c_u_phrase (d + 2) σ s noun = some (0, σ') → PM (d' + 1) τ noun' w q x τ' → fr L σ σ' → fr M τ τ' → AP σ' τ' → L.all (fun F => (wpC ++ ouC ++ bkL).contains F) = true → M.all (fun F => (fM_nounObject :: (wpM ++ ouM ++ inM)).contains F) = true → ∃ σ' τ', c_u_phrase (d + 2) σ s noun = some (0, σ') ∧ PM (d' + 1) τ noun' w q x τ' ∧ fr tuC σ σ' ∧ fr tuM τ τ' ∧ TJ σ' τ' ∧ σ' fU_within 0 0 = w := by
    intro L M σ' τ' c1 c2 f1 f2 A' hL hM
    have g1 : fr (wpC ++ ouC ++ bkL) σ σ' := fr_sub f1 (mem_all hL)
    have g2 : fr (fM_nounObject :: (wpM ++ ouM ++ inM)) τ τ' := fr_sub f2 (mem_all hM)
    exact ⟨σ', τ', c1, c2, fr_sub g1 (mem_all (by decide)), fr_sub g2 (mem_all (by decide)), TJ_of TT g1 (by decide) g2 (by decide) A', by rw [g1 _ (by decide)]; exact hw0⟩
  rcases P with ⟨a1, a2, a3, a4, a5, a6, a7, a8⟩ | ⟨a1, a2, a3⟩ | ⟨a1, a2, a3, a4, a5, a6, a7⟩ | ⟨a1, a2, a3, a4, a5, a6, a7, a8, a9, a10⟩ | ⟨a1, a2⟩ | ⟨a1, a2, a3, a4, a5⟩
  · -- say
    right
    obtain ⟨τ0, e0⟩ : ∃ z, z = ga_up τ fM_nounObject 0 0 noun' := ⟨_, rfl⟩
    have f0 : fr [fM_nounObject] τ τ0 := by rw [e0]; exact fr_u (by decide)
    have A0 : AP σ τ0 := AP_f AA (fr_refl [] σ) (by decide +kernel) f0 (by decide +kernel)
    have n0 : τ0 fM_nounObject 0 0 = noun' := by rw [e0, up_eq]
    obtain ⟨b, σ', τ1, τ', c1, c2, c3, c4, c5, c6⟩ := say_J A0 hs hn kN (by rw [n0]; exact he) (by rw [n0]; exact he2) a5 a6 a7 a8 (d := d + 1) (d' := d' + 1) (by omega) (by omega)
    refine fin syC (fM_nounObject :: syM9) σ' τ' ?_ ?_ c4 (fr_trans (fr_sub f0 (by decide)) (fr_sub c5 (by decide))) c6 (by decide) (by decide)
    · rw [ph_8 hs a2 (by omega), c1, Option.bind_some]
    · exact Or.inl ⟨a1, b, τ1, by rw [← e0, a3, a4]; exact c2, c3⟩
  · -- now
    right
    obtain ⟨σ', τ', c1, c2, c3, c4, c5⟩ := now_J AA hs hq a2 a3 hn he (d := d + 2) (d' := d' + 1) (by omega) (by omega)
    exact fin wpC wpM σ' τ' c1 (Or.inr (Or.inl ⟨a1, c2⟩)) c3 c4 c5 (by decide) (by decide)
  · -- move
    right
    have ob := (ob_r X a4 (it := -1) (noun := noun) (fun z => absurd rfl z) hn).1
    have ob2 := (ob_r X a7 (it := -1) (noun := noun) (fun z => absurd rfl z) hn).1
    obtain ⟨σ', τ', c1, c2, c3, c4, c5⟩ := move_J AA ob ob2 (d := d + 1) (d' := d' + 1) (by omega) (by omega)
    refine fin wpC wpM σ' τ' ?_ (Or.inr (Or.inr (Or.inl ⟨a1, _, _, ?_, ?_, c2⟩))) c3 c4 c5 (by decide) (by decide)
    · rw [ph_9 hs a2 (by omega), c1, Option.bind_some]
    · rw [a3, m_obj a4 _ _ (by omega), ob_eq a4 he]
    · rw [a6, m_obj a7 _ _ (by omega), ob_eq a7 he]
  · -- rise, fall
    right
    rcases a1 with ⟨b1, b2⟩ | ⟨b1, b2⟩
    · obtain ⟨k1, σ', τ', c1, c2, c3, c4, c5⟩ := add_J AA (x := σ fS_value s 0) hs hq a2 a3 a4 a5 a7 (by omega) hn he (d := d + 1) (d' := d' + 1) (by omega) (by omega)
      refine fin wpC wpM σ' τ' ?_ (Or.inr (Or.inr (Or.inr (Or.inl ⟨b1, by rw [a8]; exact c2⟩)))) c3 c4 c5 (by decide) (by decide)
      rw [ph_10 hs b2 k1 (by omega)]; exact c1
    · obtain ⟨k1, σ', τ', c1, c2, c3, c4, c5⟩ := add_J AA (x := -(σ fS_value s 0)) hs hq a2 a3 a4 a5 a7 (by omega) hn he (d := d + 1) (d' := d' + 1) (by omega) (by omega)
      refine fin wpC wpM σ' τ' ?_ (Or.inr (Or.inr (Or.inr (Or.inr (Or.inl ⟨b1, by rw [a8, w32_ok (by omega)]; exact c2⟩))))) c3 c4 c5 (by decide) (by decide)
      rw [ph_11 hs b2 k1 (by omega), w32_ok (by omega)]; exact c1
  · left
    exact ⟨a1, ph_13 hs a2 (by omega)⟩
  · -- try
    right
    have c12 := W.2.2.2.2.2.2.2.2.1.2.1
    have wc := W.2.2.2.2.2.2.2.2.1.2.2.2 _ a4.1 a4.2
    have r12 := ph_12 (σ := σ) (s := s) (noun := noun) hs a2 (d := d + 1) (by omega)
    rw [hw0] at r12
    by_cases w8 : w < 8
    · rw [if_pos w8] at r12
      -- the action, both sides
      have go : ∀ ob : Int, nOk σ (σ fS_which s 0) ob → c_u_phrase (d + 2) σ s noun = u_phrase_383 (d + 1) σ s ob → c_m_tries (d' + 1) τ q noun' w = (c_m_action d' τ (σ fS_which s 0) ob (w + 1)).bind (fun q3 => some (0, q3.2)) → ∃ σ' τ', c_u_phrase (d + 2) σ s noun = some (0, σ') ∧ PM (d' + 1) τ noun' w q x τ' ∧ fr tuC σ σ' ∧ fr tuM τ τ' ∧ TJ σ' τ' ∧ σ' fU_within 0 0 = w := by
        intro ob nk1 r1 r2
        obtain ⟨σ1, e1⟩ : ∃ z, z = ga_up σ fU_within 0 0 (w + 1) := ⟨_, rfl⟩
        have f1 : fr [fU_within] σ σ1 := by rw [e1]; exact fr_u (by decide)
        have A1 : AP σ1 τ := AP_f AA f1 (by decide +kernel) (fr_refl [] τ) (by decide +kernel)
        have T1 : TJ σ1 τ := TJ_of TT f1 (by decide) (fr_refl [] τ) (by decide) A1
        obtain ⟨v, v', σ2, τ2, h1, h2, h3, h4, h5, h6, h7⟩ := H w8 σ1 τ T1 (by rw [e1, up_eq]) (σ fS_which s 0) ob (by rw [f1 _ (by decide)]; exact a4) (by unfold nOk at nk1 ⊢; rw [f1 fW_actionKinds (by decide), f1 fW_objects (by decide), f1 fW_parents (by decide), f1 fW_kindOf (by decide)]; exact nk1)
        obtain ⟨σ3, e3⟩ : ∃ z, z = ga_up (ga_up σ2 fU_within 0 0 w) fU_stops 0 0 0 := ⟨_, rfl⟩
        have f3 : fr [fU_within, fU_stops] σ2 σ3 := by rw [e3]; exact fr_trans (fr_u (by decide)) (fr_u (by decide))
        have A3 : AP σ3 τ2 := AP_f h6.1 f3 (by decide +kernel) (fr_refl [] τ2) (by decide +kernel)
        have T3 : TJ σ3 τ2 := by
          obtain ⟨_, y1, y2, _⟩ := h6
          unfold TJ
          rw [f3 fU_phrases (by decide), f3 fU_ends (by decide)]
          exact ⟨A3, y1, y2, by rw [e3, up_eq]⟩
        refine ⟨σ3, τ2, ?_, Or.inr (Or.inr (Or.inr (Or.inr (Or.inr ⟨a1, ?_⟩)))), fr_trans (fr_sub f1 (by decide)) (fr_trans h4 (fr_sub f3 (by decide))), h5, T3, by rw [e3, up_F (by decide), up_eq]⟩
        · rw [r1, e_u_phrase_383, nn_ok _ hs, e_u_action, hw0, w32_ok (by omega), ← e1, h1, Option.bind_some]
          show ((some (v, ga_up σ2 fU_within 0 0 (w32 (σ2 fU_within 0 0 - 1)))).bind fun q10 => some ((0 : Int), ga_up q10.2 fU_stops 0 0 0)) = _
          rw [h7, w32_ok (by omega), show w + 1 - 1 = w by omega, Option.bind_some]
          show some ((0 : Int), ga_up (ga_up σ2 fU_within 0 0 w) fU_stops 0 0 0) = _
          rw [← e3]
        · rw [r2, h2, Option.bind_some]
      rcases a5 with ⟨b1, b2, b3, b4⟩ | ⟨b1, b2, b3, b4⟩
      · refine go (-1) ⟨fun z => by omega, fun z => by omega⟩ ?_ ?_
        · rw [if_pos b1, b1] at r12
          exact r12
        · rw [e_m_tries, ck_ok _ hq, if_neg (by omega), ck_ok _ hq, if_neg (by omega), a3, w32_ok (by omega)]
      · have ob := ob_r X b1 (it := -1) (noun := noun) (fun z => absurd rfl z) hn
        obtain ⟨o, eo⟩ : ∃ o, o = obT (σ fS_thing s 0) (-1) noun := ⟨_, rfl⟩
        rw [← eo] at ob r12
        have wo := W.2.1.2.2.2 o ob.1.1 ob.1.2
        have nt : ¬ σ fS_thing s 0 = -1 := by unfold thO at b1; omega
        have ik := s_w_isKind (σ := σ) W.1.1 (d := d + 1) (by omega) (o := o) (σ fW_actionKinds 0 (σ fS_which s 0)) (by omega) (by omega) wo.2.1
        have mk := s_m_isBelow (τ := τ) W.1.1 W.1.2.2.2.1 (d := d') (by omega) (k := σ fW_kindOf 0 o) (σ fW_actionKinds 0 (σ fS_which s 0)) (by omega) wo.2.1
        rw [if_neg nt, ck_ok _ (by omega), ik, Option.bind_some] at r12
        have mth : c_m_thingIs d' τ (τ fM_qThing 0 q) (-1) noun' = some (o, τ) := by rw [b2, m_obj b1 _ _ (by omega), ob_eq b1 he, eo]
        have rM : c_m_tries (d' + 1) τ q noun' w = (if b2i (isB (σ fW_parents 0) (σ fW_kindOf 0 o) (σ fW_actionKinds 0 (σ fS_which s 0))) = 0 then some (0, τ) else (c_m_action d' τ (σ fS_which s 0) o (w + 1)).bind fun q3 => some (0, q3.2)) := by
          rw [e_m_tries, ck_ok _ hq, if_neg (by omega), ck_ok _ hq, if_pos b3, ck_ok _ hq, mth, Option.bind_some]
          show ga_ck o 24 (ga_ck (τ fM_qProperty 0 q) 12 ((c_m_isBelow d' τ (τ fM_kindOf 0 o) (τ fM_actionKind 0 (τ fM_qProperty 0 q))).bind fun q2 => if q2.1 = 0 then some ((0 : Int), q2.2) else (c_m_action d' q2.2 (τ fM_qProperty 0 q) o (w32 (w + 1))).bind fun q3 => some (0, q3.2))) = _
          rw [ck_ok _ (by omega), a3, ck_ok _ (by omega), wo.2.2, wc.2.2, mk, Option.bind_some, w32_ok (by omega)]
        cases bk : isB (σ fW_parents 0) (σ fW_kindOf 0 o) (σ fW_actionKinds 0 (σ fS_which s 0)) with
        | false =>
          rw [bk] at r12 rM
          rw [if_pos b2i_f] at rM
          exact fin [] [] σ τ (r12.trans (if_pos b2i_f)) (Or.inr (Or.inr (Or.inr (Or.inr (Or.inr ⟨a1, rM⟩))))) (fr_refl _ _) (fr_refl _ _) AA (by decide) (by decide)
        | true =>
          rw [bk] at r12 rM
          rw [if_neg b2i_n] at rM
          exact go o ⟨fun _ => ⟨ob.1, bk⟩, fun z => by omega⟩ (r12.trans (if_neg b2i_n)) rM
    · rw [if_neg w8] at r12
      refine fin [] [] σ τ r12 (Or.inr (Or.inr (Or.inr (Or.inr (Or.inr ⟨a1, ?_⟩))))) (fr_refl _ _) (fr_refl _ _) AA (by decide) (by decide)
      rw [e_m_tries, ck_ok _ hq, if_pos (by omega)]
end

/-! what an action does by itself, on both sides -/
section
variable {σ τ : ga_S} {g : Int}
theorem tR_sym (σ : ga_S) (o a c : Int) : toldRow σ o a c = toldRow σ o c a := by
  unfold toldRow
  have e : (fun k => decide (¬ (σ fW_told (24 + k) a = 0 ∧ σ fW_told (24 + k) c = 0))) = (fun k => decide (¬ (σ fW_told (24 + k) c = 0 ∧ σ fW_told (24 + k) a = 0))) := by
    funext k
    exact decide_eq_decide.mpr ⟨fun z y => z ⟨y.2, y.1⟩, fun z y => z ⟨y.2, y.1⟩⟩
  rw [e]
  by_cases c1 : σ fW_told o a = 0 ∧ σ fW_told o c = 0
  · rw [if_pos c1, if_pos ⟨c1.2, c1.1⟩]
  · rw [if_neg c1, if_neg (fun z => c1 ⟨z.2, z.1⟩)]
theorem tR_ne {σ : ga_S} {o a c : Int} (h : toldRow σ o a c ≠ -1) : ¬ (σ fW_told (toldRow σ o a c) a = 0 ∧ σ fW_told (toldRow σ o a c) c = 0) := by
  unfold toldRow at h ⊢
  by_cases c1 : σ fW_told o a = 0 ∧ σ fW_told o c = 0
  · rw [if_pos c1] at h ⊢
    cases e : (CH (σ fW_parents 0) (σ fW_kindOf 0 o)).find? (fun k => decide (¬ (σ fW_told (24 + k) a = 0 ∧ σ fW_told (24 + k) c = 0))) with
    | none => rw [e] at h; exact absurd rfl h
    | some k =>
      have := List.find?_some e
      exact of_decide_eq_true this
  · rw [if_neg c1]; exact c1
theorem isT_01 (X : SX σ τ g) (Z : PZ σ) {o : Int} (ho : 0 ≤ o ∧ o < σ fW_objects 0 0) : isT σ o 1 = !(isT σ o 0) := by
  have o24 := X.1.2.1.2.1
  have k16 := X.1.1.1.1
  have a2 := X.1.2.2.1.1
  have wo := X.1.2.1.2.2.2 o ho.1 ho.2
  unfold isT
  rw [Z.1, Z.2.1, tR_sym σ o 1 0]
  have rr := toldRow_r (a := 0) (c := 1) X.1.1.1 (o := o) (by omega) (by omega) wo.2.1
  by_cases c : toldRow σ o 0 1 = -1
  · rw [if_pos c, if_pos c]; decide
  · rw [if_neg c, if_neg c]
    obtain ⟨r, er⟩ : ∃ r, r = toldRow σ o 0 1 := ⟨_, rfl⟩
    have ne := tR_ne c
    rw [← er] at ne rr c ⊢
    have t0 := told_01 X (r := r) (a := 0) (by omega) (by decide)
    have t1 := told_01 X (r := r) (a := 1) (by omega) (by decide)
    have one : σ fW_told r 0 = 0 ∨ σ fW_told r 1 = 0 := by
      by_cases r24 : r < 24
      · by_cases ro : r < σ fW_objects 0 0
        · rcases (X.2.1.1.1 r (by omega) ro 0 (by decide) (by decide)).2 with z | z
          · have := z.2.2.2
            rw [Z.1] at this; exact this
          · exact Or.inl z.2.1
        · exact Or.inl (X.2.1.1.2.2 r 0 (Or.inl ⟨by omega, r24⟩) (by decide) (by decide))
      · by_cases rk : r < 24 + σ fW_kinds 0 0
        · have q := X.2.1.1.2.1 (r - 24) (by omega) (by omega) 0 (by decide) (by decide)
          rw [show 24 + (r - 24) = r by omega] at q
          rcases q.2 with z | z
          · have := z.2.2.2
            rw [Z.1] at this; exact this
          · exact Or.inl z.2.1
        · exact Or.inl (X.2.1.1.2.2 r 0 (Or.inr ⟨by omega, rr.2⟩) (by decide) (by decide))
    rcases t0 with u0 | u0
    · rcases t1 with u1 | u1
      · exact absurd ⟨u0, u1⟩ ne
      · rw [u0, u1]; decide
    · have u1 : σ fW_told r 1 = 0 := one.resolve_left (by omega)
      rw [u0, u1]; decide
def isBy9 (σ : ga_S) (o : Int) : Bool := decide (σ fW_placeAt 0 o = 0 ∧ (σ fW_placed 0 o = 4 ∨ σ fW_placed 0 o = 5))
theorem k_isBy {o : Int} (ho : 0 ≤ o ∧ o < 24) {d : Nat} (hd : 1 ≤ d) : c_w_isBy d σ o 0 = some (b2i (isBy9 σ o), σ) := by
  obtain ⟨d, rfl⟩ : ∃ e, d = e + 1 := ⟨d - 1, by omega⟩
  unfold isBy9
  rw [e_w_isBy, ck_ok _ ho]
  by_cases c1 : σ fW_placeAt 0 o = 0
  · rw [if_pos c1, ck_ok _ ho]
    by_cases c2 : σ fW_placed 0 o = 4
    · rw [if_pos c2, e_w_isBy_30, decide_eq_true ⟨c1, Or.inl c2⟩]; rfl
    · rw [if_neg c2, ck_ok _ ho]
      by_cases c3 : σ fW_placed 0 o = 5
      · rw [if_pos c3, e_w_isBy_30, decide_eq_true ⟨c1, Or.inr c3⟩]; rfl
      · rw [if_neg c3, decide_eq_false (fun z => z.2.elim c2 c3)]; rfl
  · rw [if_neg c1, decide_eq_false (fun z => c1 z.1)]; rfl
theorem m_isHeld (R : RWp σ τ) (o24 : σ fW_objects 0 0 ≤ 24) {o : Int} (ho : 0 ≤ o ∧ o < σ fW_objects 0 0) {d : Nat} (hd : 1 ≤ d) : c_m_isHeld d τ o = some (b2i (isBy9 σ o), τ) := by
  obtain ⟨d, rfl⟩ : ∃ e, d = e + 1 := ⟨d - 1, by omega⟩
  have w := R.1 o ho.1 ho.2
  have th : σ fW_placed 0 o ≠ 0 → τ fM_there 0 o = σ fW_placeAt 0 o := fun z => by
    rcases w.2.2 with y | y
    · exact absurd y.1 z
    · exact y.2.1
  have e20 : (σ fW_placed 0 o = 4 ∨ σ fW_placed 0 o = 5) → m_isHeld_20 d τ o = some (b2i (isBy9 σ o), τ) := by
    intro z
    unfold isBy9
    rw [e_m_isHeld_20, ck_ok _ (by omega), th (by omega)]
    by_cases c : σ fW_placeAt 0 o = 0
    · rw [if_pos c, decide_eq_true ⟨c, z⟩]; rfl
    · rw [if_neg c, decide_eq_false (fun y => c y.1)]; rfl
  rw [e_m_isHeld, ck_ok _ (by omega), w.1]
  by_cases c2 : σ fW_placed 0 o = 4
  · rw [if_pos c2, e20 (Or.inl c2)]
  · rw [if_neg c2, ck_ok _ (by omega)]
    by_cases c3 : σ fW_placed 0 o = 5
    · rw [if_pos c3, e20 (Or.inr c3)]
    · rw [if_neg c3]
      unfold isBy9
      rw [decide_eq_false (fun z => z.2.elim c2 c3)]; rfl
/-- what the player holds is put where the player is -/
theorem RWp_drop {σ1 τ1 : ga_S} (R : RWp σ τ) {o : Int} (ho : 0 ≤ o ∧ o < σ fW_objects 0 0) (h : isBy9 σ o = true) (f1 : fr [fW_placed, fW_placeAt] σ σ1) (e1 : ∀ i, σ1 fW_placed 0 i = if i = o then σ fW_placed 0 0 else σ fW_placed 0 i) (e2 : ∀ i, σ1 fW_placeAt 0 i = if i = o then σ fW_placeAt 0 0 else σ fW_placeAt 0 i) (e3 : ∀ i, τ1 fM_way 0 i = if i = o then τ fM_way 0 0 else τ fM_way 0 i) (e4 : ∀ i, τ1 fM_there 0 i = if i = o then τ fM_there 0 0 else τ fM_there 0 i) : RWp σ1 τ1 := by
  have h := of_decide_eq_true h
  obtain ⟨r1, R, r2⟩ := R
  unfold RWp
  rw [f1 fW_objects (by decide), f1 fW_parents (by decide), f1 fW_kindOf (by decide)]
  refine ⟨fun i i0 i1 => ?_, R, fun i i0 i1 hp => ?_⟩
  · rw [e1, e2, e3, e4]
    by_cases c : i = o
    · rw [if_pos c, if_pos c, if_pos c, if_pos c]; exact r1 0 (Int.le_refl _) (by omega)
    · rw [if_neg c, if_neg c, if_neg c, if_neg c]; exact r1 i i0 i1
  · rw [e1] at hp
    rw [e2]
    by_cases c : i = o
    · rw [if_pos c] at hp ⊢
      have x := r2 0 (Int.le_refl _) (by omega) hp
      have y := r2 o ho.1 ho.2 (by omega)
      rw [h.1] at y
      rw [c]
      exact ⟨by omega, y.2⟩
    · rw [if_neg c] at hp ⊢; exact r2 i i0 i1 hp
def doC : List Nat := wpC ++ ouC
def doM : List Nat := wpM ++ ouM
theorem done_J (A : AP σ τ) {a noun : Int} (h0 : 0 ≤ σ fW_actionKinds 0 a → (0 ≤ noun ∧ noun < σ fW_objects 0 0) ∧ isB (σ fW_parents 0) (σ fW_kindOf 0 noun) (σ fW_actionKinds 0 a) = true) (h2 : σ fW_actionKinds 0 a = -2 → 0 ≤ noun ∧ noun < 6) {d d' : Nat} (hd : 8 ≤ d) (hd' : 8 ≤ d') : ∃ b σ' τ', c_u_isDone d σ a noun = some (b2i b, σ') ∧ c_m_does2 d' τ a noun = some (b2i b, τ') ∧ fr doC σ σ' ∧ fr doM τ τ' ∧ AP σ' τ' := by
  obtain ⟨d, rfl⟩ : ∃ e, d = e + 1 := ⟨d - 1, by omega⟩
  obtain ⟨d', rfl⟩ : ∃ e, d' = e + 1 := ⟨d' - 1, by omega⟩
  have AA := A
  obtain ⟨_, ⟨g, X⟩, _⟩ := A
  have W := X.1
  have fo := W.1.1
  have o1 := W.2.1.1
  have o24 := W.2.1.2.1
  have a2 := W.2.2.1.1
  have PYx := X.2.2.2.2.2.2.2
  have Z := PYx.2.1.2
  have Rp := X.2.1.2.2.1
  obtain ⟨R, rk, pw⟩ := RWp_rk Rp
  by_cases a1 : a = 1
  · subst a1
    rw [Z.2.2.1] at h0
    have hn := h0 (Int.le_refl _)
    rw [e_u_isDone, e_m_does2, if_pos rfl, if_pos rfl]
    by_cases n0 : noun = 0
    · rw [if_pos n0, if_pos n0]
      exact ⟨false, σ, τ, rfl, rfl, fr_refl _ _, fr_refl _ _, AA⟩
    · rw [if_neg n0, if_neg n0]
      have t1 := (hold_t X hn.1 (a := 1) (by omega) (by rw [Z.2.1]; decide) 0 (d := d) (d' := d') (by omega) (by omega)).1
      have t0 := (hold_t X hn.1 (a := 0) (by omega) (by rw [Z.1]; decide) 0 (d := d) (d' := d') (by omega) (by omega)).2
      rw [isT_01 X Z hn.1] at t1
      rw [t1, t0, Option.bind_some, Option.bind_some]
      cases x0 : isT σ noun 0 with
      | true =>
        refine ⟨false, σ, τ, if_pos rfl, if_neg b2i_n, fr_refl _ _, fr_refl _ _, AA⟩
      | false =>
        have rC : ∀ r, ((c_w_isBy d σ noun 0).bind fun q8 => if q8.1 = 0 then (c_w_isWithin d q8.2 0 noun).bind fun q9 => if q9.1 = 0 then (c_w_put d q9.2 noun 4 0).bind fun q10 => some ((1 : Int), q10.2) else some (0, q9.2) else some (0, q8.2)) = r → (if (b2i (!false), σ).1 = 0 then some ((0 : Int), (b2i (!false), σ).2) else (c_w_isBy d (b2i (!false), σ).2 noun 0).bind fun q8 => if q8.1 = 0 then (c_w_isWithin d q8.2 0 noun).bind fun q9 => if q9.1 = 0 then (c_w_put d q9.2 noun 4 0).bind fun q10 => some (1, q10.2) else some (0, q9.2) else some (0, q8.2)) = r := fun r h => (if_neg b2i_n).trans h
        have rM : ∀ r, ((c_m_isHeld d' τ noun).bind fun q7 => if q7.1 = 0 then (c_m_isWithin d' q7.2 0 noun).bind fun q8 => if q8.1 = 0 then ga_ck noun 24 (ga_ck noun 24 (some ((1 : Int), ga_up (ga_up q8.2 fM_way 0 noun 4) fM_there 0 noun 0))) else some (0, q8.2) else some (0, q7.2)) = r → (if (b2i false, τ).1 = 0 then (c_m_isHeld d' (b2i false, τ).2 noun).bind fun q7 => if q7.1 = 0 then (c_m_isWithin d' q7.2 0 noun).bind fun q8 => if q8.1 = 0 then ga_ck noun 24 (ga_ck noun 24 (some ((1 : Int), ga_up (ga_up q8.2 fM_way 0 noun 4) fM_there 0 noun 0))) else some (0, q8.2) else some (0, q7.2) else some (0, (b2i false, τ).2)) = r := fun r h => (if_pos b2i_f).trans h
        have kb := k_isBy (σ := σ) (o := noun) (by omega) (d := d) (by omega)
        have mb := m_isHeld Rp o24 hn.1 (d := d') (by omega)
        have iw := k_isWithin (σ := σ) rk o24 (t := noun) (x := 0) (by omega) (by omega) (d := d) (by omega)
        have mw := m_isWithin (σ := σ) (τ := τ) rk o24 pw (t := noun) (x := 0) (by omega) (d := d') (by omega)
        cases xb : isBy9 σ noun with
        | true =>
          rw [xb] at kb mb
          refine ⟨false, σ, τ, rC _ ?_, rM _ ?_, fr_refl _ _, fr_refl _ _, AA⟩
          · rw [kb, Option.bind_some]; exact if_neg b2i_n
          · rw [mb, Option.bind_some]; exact if_neg b2i_n
        | false =>
          rw [xb] at kb mb
          cases xw : inW (σ fW_placeAt 0) noun 0 with
          | true =>
            rw [xw] at iw mw
            refine ⟨false, σ, τ, rC _ ?_, rM _ ?_, fr_refl _ _, fr_refl _ _, AA⟩
            · rw [kb, Option.bind_some]
              refine (if_pos b2i_f).trans ?_
              show ((c_w_isWithin d σ 0 noun).bind fun q9 => if q9.1 = 0 then (c_w_put d q9.2 noun 4 0).bind fun q10 => some ((1 : Int), q10.2) else some (0, q9.2)) = _
              rw [iw, Option.bind_some]; exact if_neg b2i_n
            · rw [mb, Option.bind_some]
              refine (if_pos b2i_f).trans ?_
              show ((c_m_isWithin d' τ 0 noun).bind fun q8 => if q8.1 = 0 then ga_ck noun 24 (ga_ck noun 24 (some ((1 : Int), ga_up (ga_up q8.2 fM_way 0 noun 4) fM_there 0 noun 0))) else some (0, q8.2)) = _
              rw [mw, Option.bind_some]; exact if_neg b2i_n
          | false =>
            rw [xw] at iw mw
            have S := put_AP AA hn.1 (p := 0) (s := 4) (by omega) (by decide) xw hn.2 (σ1 := ga_up (ga_up σ fW_placed 0 noun 4) fW_placeAt 0 noun 0) (τ1 := ga_up (ga_up τ fM_way 0 noun 4) fM_there 0 noun 0) rfl (fr_trans (fr_u (by decide)) (fr_u (by decide))) (fun i => by rw [up_F (by decide), up_at]) (fun i => by rw [up_at, up_F (by decide)])
            refine ⟨true, _, _, rC _ ?_, rM _ ?_, fr_sub S.1 (by decide), fr_sub S.2.1 (by decide), S.2.2⟩
            · rw [kb, Option.bind_some]
              refine (if_pos b2i_f).trans ?_
              show ((c_w_isWithin d σ 0 noun).bind fun q9 => if q9.1 = 0 then (c_w_put d q9.2 noun 4 0).bind fun q10 => some ((1 : Int), q10.2) else some (0, q9.2)) = _
              rw [iw, Option.bind_some]
              refine (if_pos b2i_f).trans ?_
              obtain ⟨e, rfl⟩ : ∃ e, d = e + 1 := ⟨d - 1, by omega⟩
              show ((c_w_put (e + 1) σ noun 4 0).bind fun q10 => some ((1 : Int), q10.2)) = _
              rw [e_w_put, ck_ok _ (by omega), ck_ok _ (by omega), Option.bind_some]; rfl
            · rw [mb, Option.bind_some]
              refine (if_pos b2i_f).trans ?_
              show ((c_m_isWithin d' τ 0 noun).bind fun q8 => if q8.1 = 0 then ga_ck noun 24 (ga_ck noun 24 (some ((1 : Int), ga_up (ga_up q8.2 fM_way 0 noun 4) fM_there 0 noun 0))) else some (0, q8.2)) = _
              rw [mw, Option.bind_some]
              refine (if_pos b2i_f).trans ?_
              rw [ck_ok _ (by omega), ck_ok _ (by omega)]; rfl
  · by_cases a2' : a = 2
    · subst a2'
      rw [Z.2.2.2.1] at h0
      have hn := h0 (Int.le_refl _)
      rw [e_u_isDone, if_neg (by decide), if_pos rfl, e_m_does2, if_neg (show ¬ (2 : Int) = 1 by decide), if_pos (show (2 : Int) = 2 from rfl), k_isBy (σ := σ) (o := noun) (by omega) (by omega), m_isHeld Rp o24 hn.1 (by omega), Option.bind_some, Option.bind_some]
      cases xb : isBy9 σ noun with
      | false => exact ⟨false, σ, τ, if_pos b2i_f, if_pos b2i_f, fr_refl _ _, fr_refl _ _, AA⟩
      | true =>
        have f1 : fr [fW_placed, fW_placeAt] σ (ga_up (ga_up σ fW_placed 0 noun (σ fW_placed 0 0)) fW_placeAt 0 noun (σ fW_placeAt 0 0)) := fr_trans (fr_u (by decide)) (fr_u (by decide))
        have f2 : fr [fM_way, fM_there] τ (ga_up (ga_up τ fM_way 0 noun (τ fM_way 0 0)) fM_there 0 noun (τ fM_there 0 0)) := fr_trans (fr_u (by decide)) (fr_u (by decide))
        have R' := RWp_drop (τ1 := ga_up (ga_up τ fM_way 0 noun (τ fM_way 0 0)) fM_there 0 noun (τ fM_there 0 0)) Rp hn.1 xb f1 (fun i => by rw [up_F (by decide), up_at]) (fun i => by rw [up_at, up_F (by decide)]) (fun i => by rw [up_F (by decide), up_at]) (fun i => by rw [up_at, up_F (by decide)])
        have k1 : fr wpC σ _ := fr_sub f1 (by decide)
        have k2 : fr wpM τ _ := fr_sub f2 (by decide)
        refine ⟨true, _, _, (if_neg b2i_n).trans ?_, (if_neg b2i_n).trans ?_, fr_sub k1 (by decide), fr_sub k2 (by decide), AP_w AA k1 k2 (RW5_3 X.2.1 f1 f2 R')⟩
        · obtain ⟨e, rfl⟩ : ∃ e, d = e + 1 := ⟨d - 1, by omega⟩
          show ((c_w_put (e + 1) σ noun (σ fW_placed 0 0) (σ fW_placeAt 0 0)).bind fun q6 => some ((1 : Int), q6.2)) = _
          rw [e_w_put, ck_ok _ (by omega), ck_ok _ (by omega), Option.bind_some]; rfl
        · rw [ck_ok _ (by omega), ck_ok _ (by omega)]; rfl
    · by_cases a3 : a = 3
      · subst a3
        rw [Z.2.2.2.2.1] at h0
        have hn := h0 (Int.le_refl _)
        have p1 := W.2.2.2.2.2.1.1
        obtain ⟨σ1, τ1, c1, c2, c3, c4, c5⟩ := wp_J AA hn.1 (p := 0) (by omega) (d := 6) (by omega)
        obtain ⟨σ2, τ2, e1, e2, e3, e4, e5⟩ := wr_J (OJ_AP c5) 10 (d := 6) (by omega)
        refine ⟨true, σ2, τ2, ?_, ?_, fr_trans (fr_sub c3 (by decide)) (fr_sub e3 (by decide)), fr_trans (fr_sub c4 (by decide)) (fr_sub e4 (by decide)), AP_out c5 e3 e4 e5⟩
        · rw [e_u_isDone, if_neg (by decide), if_neg (by decide), if_pos rfl, show c_u_writeProperty d σ noun 0 = some (0, σ1) from am_mono c1 (by omega), Option.bind_some]
          show ((c_u_write d σ1 10).bind fun q4 => some ((1 : Int), q4.2)) = _
          rw [show c_u_write d σ1 10 = some (0, σ2) from am_mono e1 (by omega), Option.bind_some]; rfl
        · rw [e_m_does2, if_neg (by decide), if_neg (by decide), if_pos rfl, show c_m_putProperty d' τ noun 0 = some (0, τ1) from am_mono c2 (by omega), Option.bind_some]
          show ((c_m_put d' τ1 10).bind fun q4 => some ((1 : Int), q4.2)) = _
          rw [show c_m_put d' τ1 10 = some (0, τ2) from am_mono e2 (by omega), Option.bind_some]; rfl
      · by_cases a4 : a = 4
        · subst a4
          have hn := h2 Z.2.2.2.2.2
          have w0 := Rp.1 0 (Int.le_refl _) (by omega)
          have no : u_isDone_196 d σ 0 = some (b2i false, σ) ∧ m_does2_174 d' τ = some (b2i false, τ) := by
            refine ⟨by rw [e_u_isDone_196, e_u_isDone_197, if_pos rfl]; rfl, ?_⟩
            rw [e_m_does2_174, e_m_does2_175, if_pos rfl, e_m_does2_196, ck_ok _ (by decide), if_pos rfl, up_self]; rfl
          rw [e_u_isDone, if_neg (show ¬ (4 : Int) = 1 by decide), if_neg (show ¬ (4 : Int) = 2 by decide), if_neg (show ¬ (4 : Int) = 3 by decide), if_pos (show (4 : Int) = 4 from rfl), e_m_does2, if_neg (show ¬ (4 : Int) = 1 by decide), if_neg (show ¬ (4 : Int) = 2 by decide), if_neg (show ¬ (4 : Int) = 3 by decide), if_pos (show (4 : Int) = 4 from rfl), w0.1]
          by_cases pl : σ fW_placed 0 0 = 1
          · have wt : τ fM_there 0 0 = σ fW_placeAt 0 0 ∧ 0 ≤ σ fW_placeAt 0 0 ∧ σ fW_placeAt 0 0 < σ fW_objects 0 0 := by
              rcases w0.2.2 with y | y
              · omega
              · exact y.2
            obtain ⟨q, eq⟩ : ∃ q, q = σ fW_placeAt 0 0 := ⟨_, rfl⟩
            rw [← eq] at wt
            have wq := W.2.1.2.2.2 q wt.2.1 wt.2.2
            have ik := s_w_isKind (σ := σ) fo (d := d) (by omega) (o := q) 1 (by omega) (by omega) wq.2.1
            have mk := s_m_isBelow (τ := τ) fo W.1.2.2.2.1 (d := d') (by omega) (k := σ fW_kindOf 0 q) 1 (by omega) wq.2.1
            rw [if_pos pl, if_pos pl, wt.1, ck_ok _ (by omega), wq.2.2, ← eq, ik, mk, Option.bind_some, Option.bind_some]
            cases rm : isB (σ fW_parents 0) (σ fW_kindOf 0 q) 1 with
            | false => exact ⟨false, σ, τ, (if_pos b2i_f).trans no.1, (if_pos b2i_f).trans no.2, fr_refl _ _, fr_refl _ _, AA⟩
            | true =>
              obtain ⟨v, l1, l2, l3⟩ := ld_J X (o := q) (b := noun) wt.2 hn (d := d) (d' := d') (by omega) (by omega)
              have rC : (if (b2i true, σ).1 = 0 then u_isDone_196 d (b2i true, σ).2 0 else (c_w_leads d (b2i true, σ).2 ((b2i true, σ).2 fW_placeAt 0 0) noun).bind fun q2 => u_isDone_197 d q2.2 0 q2.1) = u_isDone_197 d σ 0 v := by
                refine (if_neg b2i_n).trans ?_
                show ((c_w_leads d σ (σ fW_placeAt 0 0) noun).bind fun q2 => u_isDone_197 d q2.2 0 q2.1) = _
                rw [← eq, l1, Option.bind_some]
              have rM : (if (b2i true, τ).1 = 0 then m_does2_174 d' (b2i true, τ).2 else (c_m_leadsTo d' (b2i true, τ).2 ((b2i true, τ).2 fM_there 0 0) noun).bind fun q2 => m_does2_175 d' q2.2 q2.1) = m_does2_175 d' τ v := by
                refine (if_neg b2i_n).trans ?_
                show ((c_m_leadsTo d' τ (τ fM_there 0 0) noun).bind fun q2 => m_does2_175 d' q2.2 q2.1) = _
                rw [wt.1, l2, Option.bind_some]
              rcases l3 with l3 | l3
              · refine ⟨false, σ, τ, rC.trans ?_, rM.trans ?_, fr_refl _ _, fr_refl _ _, AA⟩
                · rw [e_u_isDone_197, if_pos l3]; rfl
                · have := no.2
                  rw [e_m_does2_174] at this
                  rw [l3]; exact this
              · have vr := l3.2.1
                have wv := W.2.1.2.2.2 v l3.1.1 l3.1.2
                have nth : ∀ z, 0 ≤ z → z < σ fW_objects 0 0 → isB (σ fW_parents 0) (σ fW_kindOf 0 z) 1 = true → isB (σ fW_parents 0) (σ fW_kindOf 0 z) 0 = true → False := by
                  intro z z0 z1 y1 y0
                  have wz := W.2.1.2.2.2 z z0 z1
                  exact no_01 fo W.1.2.2.2.2.1 W.1.2.2.2.2.2.1 (σ fW_kindOf 0 z) (by omega) wz.2.1 ⟨of_decide_eq_true y0, of_decide_eq_true y1⟩
                have v0 : v ≠ 0 := fun z => nth 0 (Int.le_refl _) (by omega) (by rw [z] at vr; exact vr) PYx.2.1.1
                have pv : σ fW_placed 0 v = 0 := Classical.byContradiction fun z => by
                  obtain ⟨_, R2, r2⟩ := Rp
                  exact nth v l3.1.1 l3.1.2 vr (r2 v l3.1.1 l3.1.2 z).2
                have pa : σ fW_placeAt 0 v = -1 := by
                  rcases (Rp.1 v l3.1.1 l3.1.2).2.2 with y | y
                  · exact y.2.1
                  · exact absurd pv y.1
                have nw : inW (σ fW_placeAt 0) 0 v = false := by
                  rw [inW_s rk o24 l3.1.1 l3.1.2 0 (by decide), if_neg v0, if_pos pa]
                have S := put_AP AA (o := 0) (p := v) (s := 1) (by omega) l3.1 (by decide) nw PYx.2.1.1 (σ1 := ga_up (ga_up σ fW_placed 0 0 1) fW_placeAt 0 0 v) (τ1 := ga_up τ fM_there 0 0 v) rfl (fr_u (by decide)) (fun i => by
                  rw [up_F (by decide)]
                  by_cases c : i = 0
                  · rw [if_pos c, c, w0.1]; exact pl
                  · rw [if_neg c]) (fun i => by rw [up_at])
                refine ⟨true, _, _, rC.trans ?_, rM.trans ?_, fr_sub S.1 (by decide), fr_sub S.2.1 (by decide), S.2.2⟩
                · obtain ⟨e, rfl⟩ : ∃ e, d = e + 1 := ⟨d - 1, by omega⟩
                  rw [e_u_isDone_197, if_neg (by omega), e_w_put, ck_ok _ (by decide), ck_ok _ (by decide), Option.bind_some]; rfl
                · rw [e_m_does2_175, if_neg (by omega), e_m_does2_196, ck_ok _ (by decide), if_neg (by omega)]; rfl
          · rw [if_neg pl, if_neg pl]
            exact ⟨false, σ, τ, no.1, no.2, fr_refl _ _, fr_refl _ _, AA⟩
        · refine ⟨true, σ, τ, ?_, ?_, fr_refl _ _, fr_refl _ _, AA⟩
          · rw [e_u_isDone, if_neg a1, if_neg a2', if_neg a3, if_neg a4]; rfl
          · rw [e_m_does2, if_neg a1, if_neg a2', if_neg a3, if_neg a4]; rfl
end

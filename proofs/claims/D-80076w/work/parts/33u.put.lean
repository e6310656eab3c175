/-! the world with one table changed -/
section
variable {σ τ : ga_S} {f : Int} {N : Nat}
theorem AW_rp {ρ υ ρ' υ' : ga_S} {g : Int} (A : AW σ τ g ρ υ) (h : fr [fW_placed, fW_placeAt] ρ ρ') (h2 : fr [fM_way, fM_there] υ υ') (X : RWp ρ' υ') : AW σ τ g ρ' υ' := by
  obtain ⟨A1, A2, ⟨Wk, Wo, Wa, Wt, Wv, Wp, Wr, Wb, Wc, Wd, Wl⟩, A4, A5, A6⟩ := A
  have D1 := DW_sp A5 h (by decide)
  have D' : DW ρ' υ' g := DW_cm D1 (fun _ _ => rfl) (fun _ _ => Int.le_refl _) (fr_mem h2 (by decide)) D1.2.2.2.2.1
  exact ⟨tkS_f A1 h (by decide), tkT_f A2 h2 (by decide), ⟨WKk_f Wk (fr_mem h (by decide)) (fr_mem h2 (by decide)), WKo_f Wo (fr_mem h (by decide)) (fr_mem h2 (by decide)), WKa_f Wa (fr_mem h (by decide)) (fr_mem h2 (by decide)), WKt_f Wt (fr_mem h (by decide)) (fr_mem h2 (by decide)), WKv_f Wv (fr_mem h (by decide)) (fr_mem h2 (by decide)), WKp_f Wp (fr_mem h (by decide)) (fr_mem h2 (by decide)), WKr_f Wr (fr_mem h (by decide)) (fr_mem h2 (by decide)), WKb_f Wb (fr_mem h (by decide)) (fr_mem h2 (by decide)), WKc_f Wc (fr_mem h (by decide)) (fr_mem h2 (by decide)), D'.2.1, D'.2.2.1⟩, ⟨RWt_f A4.1 (fr_mem h (by decide)) (fr_mem h2 (by decide)), RWh_f A4.2.1 (fr_mem h (by decide)) (by rw [h fT_size (by decide), h fT_bytes (by decide)]; exact ⟨rfl, rfl⟩) (fr_mem h2 (by decide)), X, RWy_f A4.2.2.2.1 (fr_mem h (by decide)) (fr_mem h2 (by decide)), RWe_f A4.2.2.2.2 (fr_mem h (by decide)) (fr_mem h2 (by decide))⟩, D', kb0_f A6.1 (fr_mem h (by decide)) (h2 _ (by decide)), NW_f A6.2 (fr_mem h (by decide))⟩
theorem AW_rt {ρ υ ρ' υ' : ga_S} {g : Int} (A : AW σ τ g ρ υ) (h : fr [fW_told] ρ ρ') (h2 : fr [fM_objectIs, fM_kindIs] υ υ') (X : RWt ρ' υ') : AW σ τ g ρ' υ' := by
  obtain ⟨A1, A2, ⟨Wk, Wo, Wa, Wt, Wv, Wp, Wr, Wb, Wc, Wd, Wl⟩, A4, A5, A6⟩ := A
  have D1 := DW_sp A5 h (by decide)
  have D' : DW ρ' υ' g := DW_cm D1 (fun _ _ => rfl) (fun _ _ => Int.le_refl _) (fr_mem h2 (by decide)) D1.2.2.2.2.1
  exact ⟨tkS_f A1 h (by decide), tkT_f A2 h2 (by decide), ⟨WKk_f Wk (fr_mem h (by decide)) (fr_mem h2 (by decide)), WKo_f Wo (fr_mem h (by decide)) (fr_mem h2 (by decide)), WKa_f Wa (fr_mem h (by decide)) (fr_mem h2 (by decide)), WKt_f Wt (fr_mem h (by decide)) (fr_mem h2 (by decide)), WKv_f Wv (fr_mem h (by decide)) (fr_mem h2 (by decide)), WKp_f Wp (fr_mem h (by decide)) (fr_mem h2 (by decide)), WKr_f Wr (fr_mem h (by decide)) (fr_mem h2 (by decide)), WKb_f Wb (fr_mem h (by decide)) (fr_mem h2 (by decide)), WKc_f Wc (fr_mem h (by decide)) (fr_mem h2 (by decide)), D'.2.1, D'.2.2.1⟩, ⟨X, RWh_f A4.2.1 (fr_mem h (by decide)) (by rw [h fT_size (by decide), h fT_bytes (by decide)]; exact ⟨rfl, rfl⟩) (fr_mem h2 (by decide)), RWp_f A4.2.2.1 (fr_mem h (by decide)) (fr_mem h2 (by decide)), RWy_f A4.2.2.2.1 (fr_mem h (by decide)) (fr_mem h2 (by decide)), RWe_f A4.2.2.2.2 (fr_mem h (by decide)) (fr_mem h2 (by decide))⟩, D', kb0_f A6.1 (fr_mem h (by decide)) (h2 _ (by decide)), NW_f A6.2 (fr_mem h (by decide))⟩
theorem AW_rh {ρ υ ρ' υ' : ga_S} {g : Int} (A : AW σ τ g ρ υ) (h : fr stW ρ ρ') (h2 : fr rhM υ υ') (X : RWh ρ' υ') : AW σ τ g ρ' υ' := by
  obtain ⟨A1, A2, ⟨Wk, Wo, Wa, Wt, Wv, Wp, Wr, Wb, Wc, Wd, Wl⟩, A4, A5, A6⟩ := A
  have D1 := DW_sp A5 h (by decide)
  have D' : DW ρ' υ' g := DW_cm D1 (fun _ _ => rfl) (fun _ _ => Int.le_refl _) (fr_mem h2 (by decide)) D1.2.2.2.2.1
  exact ⟨tkS_f A1 h (by decide), tkT_f A2 h2 (by decide), ⟨WKk_f Wk (fr_mem h (by decide)) (fr_mem h2 (by decide)), WKo_f Wo (fr_mem h (by decide)) (fr_mem h2 (by decide)), WKa_f Wa (fr_mem h (by decide)) (fr_mem h2 (by decide)), WKt_f Wt (fr_mem h (by decide)) (fr_mem h2 (by decide)), WKv_f Wv (fr_mem h (by decide)) (fr_mem h2 (by decide)), WKp_f Wp (fr_mem h (by decide)) (fr_mem h2 (by decide)), WKr_f Wr (fr_mem h (by decide)) (fr_mem h2 (by decide)), WKb_f Wb (fr_mem h (by decide)) (fr_mem h2 (by decide)), WKc_f Wc (fr_mem h (by decide)) (fr_mem h2 (by decide)), D'.2.1, D'.2.2.1⟩, ⟨RWt_f A4.1 (fr_mem h (by decide)) (fr_mem h2 (by decide)), X, RWp_f A4.2.2.1 (fr_mem h (by decide)) (fr_mem h2 (by decide)), RWy_f A4.2.2.2.1 (fr_mem h (by decide)) (fr_mem h2 (by decide)), RWe_f A4.2.2.2.2 (fr_mem h (by decide)) (fr_mem h2 (by decide))⟩, D', kb0_f A6.1 (fr_mem h (by decide)) (h2 _ (by decide)), NW_f A6.2 (fr_mem h (by decide))⟩
theorem AW_ko {ρ υ ρ' υ' : ga_S} {g : Int} (A : AW σ τ g ρ υ) (h : fr [fW_kindOf] ρ ρ') (h2 : fr [fM_kindOf] υ υ') (X : WKo ρ' υ') (G : GC σ ρ') (Nk : ∀ i, 0 ≤ i → i < ρ fW_objects 0 0 → ρ' fW_kindOf 0 i = ρ fW_kindOf 0 i ∨ isB (ρ fW_parents 0) (ρ' fW_kindOf 0 i) (ρ fW_kindOf 0 i) = true) : AW σ τ g ρ' υ' := by
  obtain ⟨A1, A2, ⟨Wk, Wo, Wa, Wt, Wv, Wp, Wr, Wb, Wc, Wd, Wl⟩, A4, A5, A6⟩ := A
  have D1 := DW_sp A5 h (by decide)
  have D' : DW ρ' υ' g := DW_cm D1 (fun _ _ => rfl) (fun _ _ => Int.le_refl _) (fr_mem h2 (by decide)) D1.2.2.2.2.1
  exact ⟨tkS_g A1 h (by decide) G, tkT_f A2 h2 (by decide), ⟨WKk_f Wk (fr_mem h (by decide)) (fr_mem h2 (by decide)), X, WKa_f Wa (fr_mem h (by decide)) (fr_mem h2 (by decide)), WKt_f Wt (fr_mem h (by decide)) (fr_mem h2 (by decide)), WKv_f Wv (fr_mem h (by decide)) (fr_mem h2 (by decide)), WKp_f Wp (fr_mem h (by decide)) (fr_mem h2 (by decide)), WKr_f Wr (fr_mem h (by decide)) (fr_mem h2 (by decide)), WKb_f Wb (fr_mem h (by decide)) (fr_mem h2 (by decide)), WKc_f Wc (fr_mem h (by decide)) (fr_mem h2 (by decide)), D'.2.1, D'.2.2.1⟩, ⟨RWt_f A4.1 (fr_mem h (by decide)) (fr_mem h2 (by decide)), RWh_f A4.2.1 (fr_mem h (by decide)) (by rw [h fT_size (by decide), h fT_bytes (by decide)]; exact ⟨rfl, rfl⟩) (fr_mem h2 (by decide)), RWp_ko A4.2.2.1 Wk.1 (fr_mem h (by decide)) (fr_mem h2 (by decide)) (fun i z0 z1 => by have := X.2.2.2 i z0 (by rw [h fW_objects (by decide)]; exact z1); rw [h fW_kinds (by decide)] at this; exact ⟨this.1, this.2.1⟩) Nk, RWy_ko A4.2.2.2.1 Wk.1 (fr_mem h (by decide)) (fr_mem h2 (by decide)) (fun i z0 z1 => by have := X.2.2.2 i z0 (by rw [h fW_objects (by decide)]; exact z1); rw [h fW_kinds (by decide)] at this; exact ⟨this.1, this.2.1⟩) Nk, RWe_f A4.2.2.2.2 (fr_mem h (by decide)) (fr_mem h2 (by decide))⟩, D', kb0_f A6.1 (fr_mem h (by decide)) (h2 _ (by decide)), NW_f A6.2 (fr_mem h (by decide))⟩
theorem AW_re {ρ υ ρ' υ' : ga_S} {g : Int} (A : AW σ τ g ρ υ) (h : fr [fW_related] ρ ρ') (h2 : fr [fM_related] υ υ') (X : RWe ρ' υ') : AW σ τ g ρ' υ' := by
  obtain ⟨A1, A2, ⟨Wk, Wo, Wa, Wt, Wv, Wp, Wr, Wb, Wc, Wd, Wl⟩, A4, A5, A6⟩ := A
  have D1 := DW_sp A5 h (by decide)
  have D' : DW ρ' υ' g := DW_cm D1 (fun _ _ => rfl) (fun _ _ => Int.le_refl _) (fr_mem h2 (by decide)) D1.2.2.2.2.1
  exact ⟨tkS_f A1 h (by decide), tkT_f A2 h2 (by decide), ⟨WKk_f Wk (fr_mem h (by decide)) (fr_mem h2 (by decide)), WKo_f Wo (fr_mem h (by decide)) (fr_mem h2 (by decide)), WKa_f Wa (fr_mem h (by decide)) (fr_mem h2 (by decide)), WKt_f Wt (fr_mem h (by decide)) (fr_mem h2 (by decide)), WKv_f Wv (fr_mem h (by decide)) (fr_mem h2 (by decide)), WKp_f Wp (fr_mem h (by decide)) (fr_mem h2 (by decide)), WKr_f Wr (fr_mem h (by decide)) (fr_mem h2 (by decide)), WKb_f Wb (fr_mem h (by decide)) (fr_mem h2 (by decide)), WKc_f Wc (fr_mem h (by decide)) (fr_mem h2 (by decide)), D'.2.1, D'.2.2.1⟩, ⟨RWt_f A4.1 (fr_mem h (by decide)) (fr_mem h2 (by decide)), RWh_f A4.2.1 (fr_mem h (by decide)) (by rw [h fT_size (by decide), h fT_bytes (by decide)]; exact ⟨rfl, rfl⟩) (fr_mem h2 (by decide)), RWp_f A4.2.2.1 (fr_mem h (by decide)) (fr_mem h2 (by decide)), RWy_f A4.2.2.2.1 (fr_mem h (by decide)) (fr_mem h2 (by decide)), X⟩, D', kb0_f A6.1 (fr_mem h (by decide)) (h2 _ (by decide)), NW_f A6.2 (fr_mem h (by decide))⟩
/-- an object is put there, on both sides -/
theorem put_J (ET : ENV σ τ f N ∧ TOK σ τ f N) {ρ υ : ga_S} {g : Int} (A : AW σ τ g ρ υ) (hf : ρ fR_fault 0 0 = 0) (hb : υ fM_bestFault 0 0 = 0) {o p s t pr pa pb : Int} (ho : 0 ≤ o ∧ o < ρ fW_objects 0 0) (hp : 0 ≤ p ∧ p < ρ fW_objects 0 0) (hs : 1 ≤ s ∧ s ≤ 5) (e1 : ρ fR_placeSort 0 0 = s) (e2 : ρ fR_object0 0 0 = p) (e3 : υ fM_placeWay 0 0 = s) (e4 : υ fM_placeRun 0 0 = pr) (hr : RU σ τ f N pr pa pb) (e5 : dN ρ (nmT σ pa pb) 2 = p) (ht : 0 ≤ t ∧ t ≤ N) {d d' : Nat} (hd : 4 ≤ d) (hd' : 5 ≤ d') : ∃ b ρ' υ', c_r_putThere d ρ o t = some (b, ρ') ∧ c_m_placeObject d' υ o (f + t) = some (0, υ') ∧ (b = 0 ∨ b = 1) ∧ fr ([fW_placed, fW_placeAt] ++ ntL) ρ ρ' ∧ fr [fM_way, fM_there, fM_bestFault, fM_bestPlace] υ υ' ∧ ((b = 1 ∧ fr [fW_placed, fW_placeAt] ρ ρ' ∧ fr [fM_way, fM_there] υ υ' ∧ AW σ τ g ρ' υ') ∨ (b = 0 ∧ ∃ why, (why = 5 ∨ why = 6) ∧ AF ρ' υ' why (σ fT_places 0 t))) := by
  obtain ⟨d, rfl⟩ : ∃ e, d = e + 1 := ⟨d - 1, by omega⟩
  obtain ⟨d', rfl⟩ : ∃ e, d' = e + 1 := ⟨d' - 1, by omega⟩
  have AA := A
  obtain ⟨A1, A2, ⟨Wk, Wo, _⟩, A4, A5, A6⟩ := A
  have Rp := A4.2.2.1
  obtain ⟨R, rk, pw⟩ := RWp_rk Rp
  have o24 := Wo.2.1
  have wo := Wo.2.2.2 o ho.1 ho.2
  have hN5 := ET.1.2.2.1
  have fN := ET.1.2.1
  have f0 := ET.1.1
  have pl : υ fM_place 0 (f + t) = σ fT_places 0 t := by rw [A2 _ (by decide)]; exact (ET.2.2.1 t ht.1 (by omega)).2.2.2
  have pc : ρ fT_places 0 = σ fT_places 0 := A1.1 fT_places (by decide)
  have kk := s_w_isKind (σ := ρ) Wk.1 (d := d) (by omega) (o := o) 0 (by omega) (by omega) wo.2.1
  have mk := s_m_isBelow (τ := υ) Wk.1 Wk.2.2.2.1 (d := d') (by omega) (k := υ fM_kindOf 0 o) 0 (by rw [wo.2.2]; omega) (by rw [wo.2.2]; exact wo.2.1)
  rw [wo.2.2] at mk
  have mp : c_m_meansRun d' υ pr 4 = some (p, υ) := by rw [m_meansA ET A2 A5.1 hr (by omega) 4, mN_dN (s := 2) (by omega), e5]
  have runC := e_r_putThere d ρ o t
  rw [kk] at runC
  simp only [Option.bind_some] at runC
  have runM := e_m_placeObject d' υ o (f + t)
  rw [e4, mp] at runM
  simp only [Option.bind_some] at runM
  rw [ck_ok _ (by omega), wo.2.2, mk] at runM
  simp only [Option.bind_some] at runM
  -- the fault
  have bad : c_r_putThere (d + 1) ρ o t = r_putThere_56 d ρ t → c_m_placeObject (d' + 1) υ o (f + t) = m_placeObject_56 d' υ (f + t) → ∃ b ρ' υ', c_r_putThere (d + 1) ρ o t = some (b, ρ') ∧ c_m_placeObject (d' + 1) υ o (f + t) = some (0, υ') ∧ (b = 0 ∨ b = 1) ∧ fr ([fW_placed, fW_placeAt] ++ ntL) ρ ρ' ∧ fr [fM_way, fM_there, fM_bestFault, fM_bestPlace] υ υ' ∧ ((b = 1 ∧ fr [fW_placed, fW_placeAt] ρ ρ' ∧ fr [fM_way, fM_there] υ υ' ∧ AW σ τ g ρ' υ') ∨ (b = 0 ∧ ∃ why, (why = 5 ∨ why = 6) ∧ AF ρ' υ' why (σ fT_places 0 t))) := by
    intro r1 r2
    obtain ⟨ρ', o1, o2, o3, o4⟩ := k_otherwise hf (t := t) (by omega) (d := d) (by omega)
    obtain ⟨υ', w1, w2, w3, w4⟩ := m_wrongA hb (t := f + t) (why := 5) (by omega) (d := d') (by omega)
    rw [e_r_putThere_56, o1] at r1
    simp only [Option.bind_some] at r1
    rw [z1_ok _ (Or.inl rfl)] at r1
    rw [e_m_placeObject_56, w1] at r2
    simp only [Option.bind_some] at r2
    exact ⟨0, ρ', υ', r1, r2, Or.inl rfl, fr_sub o2 (by decide), fr_sub w2 (by decide), Or.inr ⟨rfl, 5, Or.inl rfl, o3, by rw [o4, pc], w3, by rw [w4, pl]⟩⟩
  have wp := Rp.1 o ho.1 ho.2
  have good : isB (ρ fW_parents 0) (ρ fW_kindOf 0 o) 0 = true → c_r_putThere (d + 1) ρ o t = r_putThere_62 d ρ o t → c_m_placeObject (d' + 1) υ o (f + t) = m_placeObject_65 d' υ o (f + t) p → ∃ b ρ' υ', c_r_putThere (d + 1) ρ o t = some (b, ρ') ∧ c_m_placeObject (d' + 1) υ o (f + t) = some (0, υ') ∧ (b = 0 ∨ b = 1) ∧ fr ([fW_placed, fW_placeAt] ++ ntL) ρ ρ' ∧ fr [fM_way, fM_there, fM_bestFault, fM_bestPlace] υ υ' ∧ ((b = 1 ∧ fr [fW_placed, fW_placeAt] ρ ρ' ∧ fr [fM_way, fM_there] υ υ' ∧ AW σ τ g ρ' υ') ∨ (b = 0 ∧ ∃ why, (why = 5 ∨ why = 6) ∧ AF ρ' υ' why (σ fT_places 0 t))) := by
    intro thg r1 r2
    have w1 := k_isWithin (σ := ρ) rk o24 (t := o) (x := p) (by omega) hp (d := d) (by omega)
    have w2 := m_isWithin (σ := ρ) (τ := υ) rk o24 pw (t := o) (x := p) hp (d := d') (by omega)
    rw [e_r_putThere_62, e2, w1] at r1
    simp only [Option.bind_some] at r1
    rw [e_m_placeObject_65, w2] at r2
    simp only [Option.bind_some] at r2
    cases q : inW (ρ fW_placeAt 0) o p with
    | false =>
      rw [q, if_pos b2i_f] at r1 r2
      obtain ⟨e, ed⟩ : ∃ e, d = e + 1 := ⟨d - 1, by omega⟩
      obtain ⟨ρ', x1⟩ : ∃ x, x = ga_up (ga_up ρ fW_placed 0 o s) fW_placeAt 0 o p := ⟨_, rfl⟩
      obtain ⟨υ', y1⟩ : ∃ x, x = ga_up (ga_up υ fM_way 0 o s) fM_there 0 o p := ⟨_, rfl⟩
      have pt : c_w_put d ρ o s p = some (0, ρ') := by
        rw [ed, e_w_put, ck_ok _ (by omega), ck_ok _ (by omega), ← x1]
      rw [e1, e2, pt] at r1
      simp only [Option.bind_some] at r1
      rw [ck_ok _ (by omega), ck_ok _ (by omega), e3, ← y1] at r2
      have fx : fr [fW_placed, fW_placeAt] ρ ρ' := by rw [x1]; exact fr_trans (fr_u (by decide)) (fr_u (by decide))
      have fy : fr [fM_way, fM_there] υ υ' := by rw [y1]; exact fr_trans (fr_u (by decide)) (fr_u (by decide))
      refine ⟨1, ρ', υ', r1, r2, Or.inr rfl, fr_sub fx (by decide), fr_sub fy (by decide), Or.inl ⟨rfl, fx, fy, AW_rp AA fx fy (RWp_put Rp o24 ho hp hs q (fx _ (by decide)) (fun i => ?_) (fun i => ?_) (fun i => ?_) (fun i => ?_) (fx _ (by decide)) (fx _ (by decide)) thg)⟩⟩
      · rw [x1, up_F (by decide), up_at]
      · rw [x1, up_at, up_F (by decide)]
      · rw [y1, up_F (by decide), up_at]
      · rw [y1, up_at, up_F (by decide)]
    | true =>
      rw [q, if_neg b2i_n] at r1 r2
      obtain ⟨ρ', o1, o2, o3, o4⟩ := k_noteA hf (t := t) (why := 6) (by omega) (Or.inr rfl) (d := d) (by omega)
      obtain ⟨υ', w1, w2, w3, w4⟩ := m_wrongA hb (t := f + t) (why := 6) (by omega) (d := d') (by omega)
      rw [o1] at r1
      simp only [Option.bind_some] at r1
      rw [w1] at r2
      simp only [Option.bind_some] at r2
      exact ⟨0, ρ', υ', r1, r2, Or.inl rfl, fr_sub o2 (by decide), fr_sub w2 (by decide), Or.inr ⟨rfl, 6, Or.inr rfl, o3, by rw [o4, pc], w3, by rw [w4, pl]⟩⟩
  cases q : isB (ρ fW_parents 0) (ρ fW_kindOf 0 o) 0 with
  | false =>
    rw [q, if_pos b2i_f] at runC runM
    exact bad runC runM
  | true =>
    rw [q, if_neg b2i_n, ck_ok _ (by omega)] at runC runM
    rw [wp.1] at runM
    by_cases c : ρ fW_placed 0 o = 0
    · rw [if_pos c] at runC runM
      exact good q runC runM
    · have wq := wp.2.2.resolve_left (fun z => c z.1)
      rw [if_neg c, ck_ok _ (by omega)] at runC runM
      rw [e1] at runC
      rw [e3] at runM
      by_cases c2 : ρ fW_placed 0 o = s
      · rw [if_pos c2, ck_ok _ (by omega)] at runC runM
        rw [e2] at runC
        rw [wq.2.1] at runM
        by_cases c3 : ρ fW_placeAt 0 o = p
        · rw [if_pos c3] at runC runM
          exact good q runC runM
        · rw [if_neg c3] at runC runM
          exact bad runC runM
      · rw [if_neg c2] at runC runM
        exact bad runC runM
end

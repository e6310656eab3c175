/-! the relation holds of the worlds as at first, part two -/
theorem lastL_jn : ∀ (V : List (List Int)), lastL V ≤ (jn V).length
  | [] => by simp [lastL, jn]
  | [w] => by simp [lastL, jn]
  | w :: x :: r => by
    have i := lastL_jn (x :: r)
    have e : (jn (w :: x :: r)).length = w.length + 1 + (jn (x :: r)).length := by
      simp only [jn, List.length_append, List.length_cons]; omega
    have l : lastL (w :: x :: r) = lastL (x :: r) := rfl
    omega
section
variable {σ τ : ga_S}
theorem fi_dw (A : WB σ) (B : WBM τ) : DW σ τ 0 := by
  obtain ⟨⟨k1, _⟩, ⟨t1, _, _, v1⟩, ⟨o1, _⟩, ⟨j1, _⟩, _, ⟨p1, _⟩, ⟨_, r1, b1, _⟩, ⟨c1, _⟩, _, D⟩ := A
  have M : ML τ EB := B.2.2.2.2.2.2.2.2.2
  have R : RD σ τ := RD_list D M (fun k hk => ⟨(EB_w k hk).1, (EB_w k hk).2.1, by have := (EB_w k hk).2.2; omega⟩) (fun k hk => by have := EB_s k hk; exact ⟨this.1, this.2.1, this.2.2.1, this.2.2.2.1, by omega⟩) (fun k j hk hj e => EB_1 k hk j hj e) (fun k j hk hj e => EB_2 k hk j hj e) (by decide)
  obtain ⟨d1, d2, d3, d4⟩ := D
  obtain ⟨m1, m2⟩ := M
  have n27 : (EB.length : Int) = 27 := by decide
  refine ⟨R, fun k hk => ?_, fun V hV h12 hf => ?_, ⟨by omega, by omega, fun k j hk hk2 hj hj2 e1 e2 => ?_, Int.le_refl _⟩, ⟨by omega, by omega, by omega, by omega, by omega, by omega, by omega, by omega, by omega⟩, by decide⟩
  · obtain ⟨h0, h1, _⟩ := hk
    obtain ⟨j, rfl⟩ := Int.eq_ofNat_of_zero_le h0
    have hj : j < EB.length := by omega
    obtain ⟨x1, x2, x3, x4⟩ := d4 j hj
    have q := EB_4 j hj
    rw [x2, x3]
    have mx : mxN σ (EB.getD j dz).2.1 = mx0 (EB.getD j dz).2.1 := by
      unfold mxN mx0
      rw [k1, t1, o1, j1, v1, p1, r1, b1, c1]
    rw [mx, k1]
    exact ⟨q.1, fun e => Or.inl (q.2 e)⟩
  · exfalso
    rcases fnd_r (σ := σ) (nm := jn V ++ [115]) (Int.le_refl 0) with e | ⟨e1, e2, e3, e4⟩
    · exact hf e
    · obtain ⟨j, hj0⟩ := Int.eq_ofNat_of_zero_le e1
      have hj : j < EB.length := by omega
      have x1 := (d4 j hj).1
      rw [← hj0] at x1
      rw [e4] at x1
      have l := (EB_w j hj).2.2
      rw [← x1, List.length_append] at l
      have lb := lastL_jn V
      rw [h12] at lb
      have : ([115] : List Int).length = 1 := rfl
      omega
  · obtain ⟨k, rfl⟩ := Int.eq_ofNat_of_zero_le hk
    obtain ⟨j, rfl⟩ := Int.eq_ofNat_of_zero_le hj
    have ka : k < EB.length := by omega
    have ja : j < EB.length := by omega
    obtain ⟨_, x2, x3, _⟩ := m2 k ka
    obtain ⟨_, y2, y3, _⟩ := m2 j ja
    rw [x2, y2] at e1
    rw [x3, y3] at e2
    rw [EB_3 k ka j ja e1 e2]
theorem fi_wk (A : WB σ) (B : WBM τ) : WK σ τ := by
  have D := fi_dw A B
  obtain ⟨⟨k1, k2, k3, k4, k5, k6⟩, ⟨t1, t2, t3, v1⟩, ⟨o1, o2, o3, o4, o5⟩, ⟨j1, j2, j3, j4, j5⟩, _, ⟨p1, p2, p3⟩, ⟨y1, r1, b1, u1⟩, ⟨c1, c2, c3, c4, c5', c6⟩, _, _⟩ := A
  obtain ⟨⟨K1, K2, K3, K4, K5, K6⟩, _, ⟨O1, O2, O3, O4, O5, O6⟩, ⟨J1, J2, J3, J4, J5, J6, J7⟩, ⟨P1, P2⟩, ⟨C1, C2, C3, C4, C5, C6⟩, ⟨T1, V1, Q1, R1, B1, Y1, U1, U2, U3, U4, U5⟩, _, _, _⟩ := B
  refine ⟨⟨⟨by omega, fun k h0 h1 => ?_⟩, by omega, by omega, fun k h0 h1 => ?_, k2, k3, k4, k5, k6⟩, ⟨by omega, by omega, by omega, fun o h0 h1 => ?_⟩, ⟨by omega, by omega, by omega, fun a h0 h1 => ?_⟩, ⟨by omega, by omega, by omega, fun t h0 h1 => ?_⟩, ⟨by omega, by omega, by omega, fun v h0 h1 => by omega⟩, ⟨by omega, by omega, by omega, fun p h0 h1 => ?_, fun k p h0 h1 h2 h3 => ?_⟩, ⟨by omega, by omega, by omega, fun r h0 h1 => by omega⟩, ⟨by omega, by omega, by omega, fun r h0 h1 => by omega⟩, ⟨by omega, by omega, by omega, fun a h0 h1 => ?_⟩, D.2.1, D.2.2.1⟩
  · rw [k1] at h1
    rcases c5 h0 h1 with e | e | e | e | e <;> subst e
    · rw [k2]; decide
    · rw [k3]; decide
    · rw [k4]; decide
    · rw [k5]; decide
    · rw [k6]; decide
  · rw [k1] at h1
    rcases c5 h0 h1 with e | e | e | e | e <;> subst e
    · rw [k2, K2]
    · rw [k3, K3]
    · rw [k4, K4]
    · rw [k5, K5]
    · rw [k6, K6]
  · have e : o = 0 := by omega
    subst e
    rw [o2, O2, k1]
    decide
  · have e : a = 0 ∨ a = 1 := by omega
    rcases e with e | e <;> subst e
    · rw [j2, j4, k1, j1, j5, j3, J2, J4, J6]
      exact ⟨by decide, Or.inr (by decide)⟩
    · rw [j3, j5, k1, j1, j4, j2, J3, J5, J7]
      exact ⟨by decide, Or.inr (by decide)⟩
  · have cz : cntV σ t = 0 := by
      unfold cntV
      rw [v1, rg_n (Int.le_refl _)]
      rfl
    rw [cz]
    have e : t = 0 ∨ t = 1 := by omega
    rcases e with e | e <;> subst e
    · exact t2
    · exact t3
  · have e : p = 0 := by omega
    subst e
    rw [p2, P1, t1]
    decide
  · have e : p = 0 := by omega
    subst e
    rw [k1] at h1
    rw [p3, bit3 k h0 (by omega), P2 _ (by omega) (by omega)]
    rcases c5 h0 h1 with e | e | e | e | e <;> subst e <;> decide
  · rw [c1] at h1
    rw [k1]
    rcases c5 h0 h1 with e | e | e | e | e <;> subst e
    · rw [c2, C2]; decide
    · rw [c3, C3]; decide
    · rw [c4, C4]; decide
    · rw [c5', C5]; decide
    · rw [c6, C6]; decide
theorem fi_row {F : Nat} {base r : Int} (A : WB σ) (hr : 0 ≤ r ∧ r < 40) (hz : ∀ a, 0 ≤ a → a < 24 → τ F 0 (base + a) = 0) : rowT σ τ F base r := by
  obtain ⟨_, _, _, ⟨j1, j2, j3, j4, j5⟩, H, _⟩ := A
  have t : ∀ a, 0 ≤ a → a < 24 → σ fW_told r a = 0 := fun a x y => (H r a hr.1 hr.2 x).1 y
  intro a a0 a1
  refine ⟨Or.inl (t a a0 a1), ?_⟩
  by_cases c : a < 2
  · have e : a = 0 ∨ a = 1 := by omega
    have ct : 0 ≤ σ fW_contraries 0 a ∧ σ fW_contraries 0 a < 24 := by
      rcases e with e | e <;> rw [e]
      · rw [j4]; decide
      · rw [j5]; decide
    refine Or.inl ⟨by omega, by omega, ?_, Or.inl (t a a0 a1)⟩
    rw [hz a a0 a1]
    unfold tv
    rw [if_pos (t a a0 a1), if_pos (t _ ct.1 ct.2)]
  · exact Or.inr ⟨Or.inl (by omega), t a a0 a1, hz a a0 a1⟩
theorem fi_rowh {Ft Fs Fl : Nat} {base r : Int} (A : WB σ) (hr : 0 ≤ r ∧ r < 40) (hz : ∀ a, 0 ≤ a → a < 12 → τ Ft 0 (base + a) = 0) : rowH σ τ Ft Fs Fl base r := by
  obtain ⟨_, _, _, _, H, _⟩ := A
  have t : ∀ a, 0 ≤ a → a < 12 → σ fW_has r a = 0 := fun a x y => (H r a hr.1 hr.2 x).2 y
  intro a a0 a1
  exact ⟨Or.inl (t a a0 a1), by rw [hz a a0 a1, t a a0 a1], fun z => absurd (t a a0 a1) z⟩
theorem fi_rw (A : WB σ) (B : WBM τ) : RW5 σ τ := by
  have A' := A
  obtain ⟨⟨k1, _⟩, _, ⟨o1, o2, o3, o4, o5⟩, _, H, _, ⟨y1, r1, b1, u1⟩, _, _, _⟩ := A'
  obtain ⟨_, ⟨X1, X2⟩, ⟨O1, O2, O3, O4, O5, O6⟩, _, _, _, ⟨T1, V1, Q1, R1, B1, Y1, _⟩, _, Z, _⟩ := B
  refine ⟨⟨fun o h0 h1 => ?_, fun k h0 h1 => ?_, fun r a h h0 h1 => (H r a (by omega) (by omega) h0).1 h1⟩, ⟨fun o h0 h1 => ?_, fun k h0 h1 => ?_, fun r a h h0 h1 => (H r a (by omega) (by omega) h0).2 h1⟩, ⟨fun o h0 h1 => ?_, ⟨fun _ => 0, fun o h0 h1 h2 => ?_⟩⟩, ⟨⟨by omega, by omega⟩, fun k h0 h1 => by omega, fun i j h0 h1 => by omega, fun o b h0 h1 h2 h3 => ?_⟩, ⟨fun r h0 h1 => by omega, fun i h0 h1 => Z i (by omega) h1⟩⟩
  · exact fi_row A (by omega) (fun a a0 a1 => O5 _ (by omega) (by omega))
  · exact fi_row A (by omega) (fun a a0 a1 => X2 _ (by omega) (by omega))
  · exact fi_rowh A (by omega) (fun a a0 a1 => O6 _ (by omega) (by omega))
  · exact fi_rowh A (by omega) (fun a a0 a1 => X1 _ (by omega) (by omega))
  · have e : o = 0 := by omega
    subst e
    exact ⟨by omega, by omega, Or.inl ⟨o3, o4, O4⟩⟩
  · have e : o = 0 := by omega
    subst e
    exact absurd o3 h2
  · have e : o = 0 := by omega
    subst e
    exact Or.inl (o5 b h2 h3)
theorem fi_cw (A : WB σ) (B : WBM τ) (W : WK σ τ) : CW σ τ := by
  have fo := W.1.1
  obtain ⟨⟨k1, _⟩, _, _, _, _, _, _, ⟨c1, c2, c3, c4, c5', c6⟩, ⟨m1, m2, q0, q1, q2, q3, q4, q5, q6⟩, _⟩ := A
  obtain ⟨_, _, _, _, _, _, _, ⟨M1, Q0, Q1, Q2, Q3, Q4, Q5, Q6⟩, _⟩ := B
  have b0 : isB (σ fW_parents 0) 0 0 = true := isB_rf fo (by decide) (by omega)
  refine ⟨⟨by omega, by omega, by omega⟩, ⟨m2.1, by omega⟩, fun c h0 h1 => ?_⟩
  have e : c = 0 ∨ c = 1 ∨ c = 2 ∨ c = 3 ∨ c = 4 ∨ c = 5 ∨ c = 6 := by omega
  rcases e with e | e | e | e | e | e | e <;> subst e
  · exact cw_of q0 Q0 lt22.2.1 (by decide) (by omega) (Or.inl ⟨c2, rfl, by decide⟩)
  · exact cw_of q1 Q1 lt23.2.1 (by decide) (by omega) (Or.inr (Or.inr ⟨by omega, by omega, by rw [c3]; exact b0⟩))
  · exact cw_of q2 Q2 lt24.2.1 (by decide) (by omega) (Or.inr (Or.inr ⟨by omega, by omega, by rw [c3]; exact b0⟩))
  · exact cw_of q3 Q3 lt25.2.1 (by decide) (by omega) (Or.inr (Or.inr ⟨by omega, by omega, by rw [c4]; exact b0⟩))
  · exact cw_of q4 Q4 lt26.2.1 (by decide) (by omega) (Or.inr (Or.inr ⟨by omega, by omega, by rw [c5']; exact b0⟩))
  · exact cw_of q5 Q5 lt27.2.1 (by decide) (by omega) (Or.inr (Or.inl ⟨c6, rfl⟩))
  · exact cw_of q6 Q6 (fun c hc => by cases hc) (by decide) (by omega) (Or.inr (Or.inl ⟨c6, rfl⟩))
theorem EB_ws (j : Nat) (hj : j < EB.length) : wsW [(EB.getD j dz).1] := fun w hm => by
  rw [List.mem_singleton.mp hm]
  have h := EB_w j hj
  exact ⟨h.1, h.2.1, by omega⟩
theorem SI_first (A : WB σ) (B : WBM τ) (S : SLT σ) (hl : σ fR_latest 0 0 = -1) : SI σ τ 0 := by
  have W := fi_wk A B
  have D := fi_dw A B
  have C := fi_cw A B W
  have R := fi_rw A B
  have AE : DL σ EB := A.2.2.2.2.2.2.2.2.2
  obtain ⟨⟨k1, _, _, _, _, k6⟩, ⟨t1, t2, t3, v1⟩, ⟨o1, ko, _⟩, ⟨j1, j2, j3, j4, j5⟩, _, ⟨p1, p2, p3⟩, ⟨y1, r1, b1, u1⟩, ⟨_, _, a2, a3, a4, a5⟩, _, _⟩ := A
  obtain ⟨_, _, _, _, ⟨P1, P2⟩, _, ⟨T1, V1, Q1, R1, B1, Y1, U1, U2, U3, U4, U5⟩, _, _, _⟩ := B
  refine ⟨W, R, D, ⟨fun p k h0 h1 h2 h3 => ?_, fun k p h0 h1 h2 h3 => ?_⟩, fun t h0 h1 => ?_, ⟨S, ⟨by omega, by omega, by omega⟩, ⟨by omega, by omega⟩, ⟨by omega, by omega⟩, fun l h0 h1 => by omega, fun a h0 h1 z => ?_⟩, C, ⟨by rw [U4, hl], Or.inl hl⟩, p2, ⟨?_, j4, j5, a2, a3, a4, a5⟩, ⟨fun o h0 h1 => ?_, fun v h0 h1 => by omega⟩, fun i h0 h1 => ?_⟩
  · have e : p = 0 := by omega
    subst e
    rw [p3, bit3 k (by omega) h3]
    exact decide_eq_false (by omega)
  · rw [P2 _ (by omega) (by omega), if_neg (by omega)]
  · have e : t = 0 ∨ t = 1 := by omega
    rcases e with e | e <;> subst e
    · rw [t2]; decide
    · rw [t3]; decide
  · exfalso
    have e : a = 0 ∨ a = 1 := by omega
    rcases e with e | e <;> subst e
    · rw [j4] at z; exact absurd z (by decide)
    · rw [j5] at z; exact absurd z (by decide)
  · have fo := W.1.1
    unfold isB
    rw [ko, CH_s fo (by decide) (by omega), k6]
    exact decide_eq_true (List.mem_cons_of_mem _ (CH_self fo (by decide) (by omega)))
  · have e : o = 0 := by omega
    subst e
    have x := AE.2.2.2 15 (by decide)
    have c := AE.2.1
    refine ⟨15, ⟨by decide, ?_, ?_⟩, x.2.1, x.2.2.1, [(EB.getD 15 dz).1], EB_ws 15 (by decide), x.1⟩
    · rw [c]; decide
    · have y : σ fD_sorts 0 15 = 2 := x.2.1
      rw [y]; decide
  · have c := AE.2.1
    have go : ∀ j : Nat, j < 27 → (EB.getD j dz).2.1 = 9 → (EB.getD j dz).2.2 = i → tld σ 9 i := by
      intro j hj e1 e2
      have x := AE.2.2.2 j hj
      refine ⟨j, ⟨by omega, by rw [c]; show (j : Int) < 27; omega, by rw [x.2.1, e1]; decide⟩, by rw [x.2.1, e1], by rw [x.2.2.1, e2], [(EB.getD j dz).1], EB_ws j hj, x.1⟩
    have e : i = 0 ∨ i = 1 ∨ i = 2 ∨ i = 3 ∨ i = 4 ∨ i = 5 := by omega
    rcases e with e | e | e | e | e | e <;> subst e
    · exact go 21 (by decide) rfl rfl
    · exact go 22 (by decide) rfl rfl
    · exact go 23 (by decide) rfl rfl
    · exact go 24 (by decide) rfl rfl
    · exact go 25 (by decide) rfl rfl
    · exact go 26 (by decide) rfl rfl
end

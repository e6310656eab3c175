/-! the model where it is wrong already -/
section
variable {τ : ga_S}
theorem mb_isNext {d : Nat} (hd : 1 ≤ d) (hb : τ fM_isBad 0 0 = 1) (m : Int) : c_m_isNext d τ m = some (0, τ) := by
  obtain ⟨d, rfl⟩ : ∃ e, d = e + 1 := ⟨d - 1, by omega⟩
  rw [e_m_isNext, if_neg (by omega)]
theorem mb_look {d : Nat} (hd : 1 ≤ d) (hb : τ fM_isBad 0 0 = 1) : c_m_look d τ = some (1, τ) := by
  obtain ⟨d, rfl⟩ : ∃ e, d = e + 1 := ⟨d - 1, by omega⟩
  rw [e_m_look, if_neg (by omega)]
theorem mb_odd {d : Nat} (hd : 1 ≤ d) (hb : τ fM_isBad 0 0 = 1) : c_m_odd d τ = some (0, τ) := by
  rw [s_m_odd hd, if_neg (by omega)]
theorem mb_take {d : Nat} (hd : 2 ≤ d) (hb : τ fM_isBad 0 0 = 1) (m : Int) : c_m_take d τ m = some (0, τ) := by
  obtain ⟨d, rfl⟩ : ∃ e, d = e + 1 := ⟨d - 1, by omega⟩
  rw [e_m_take, mb_isNext (by omega) hb]; simp only [Option.bind_some]; rw [if_pos trivial, mb_odd (by omega) hb]; rfl
theorem mb_run {d : Nat} (hd : 2 ≤ d) (hb : τ fM_isBad 0 0 = 1) : c_m_run d τ = some (0, τ) := by
  obtain ⟨d, rfl⟩ : ∃ e, d = e + 1 := ⟨d - 1, by omega⟩
  rw [e_m_run, mb_isNext (by omega) hb]; simp only [Option.bind_some]; rw [if_pos trivial, mb_odd (by omega) hb]; rfl
theorem mb_name {d : Nat} (hd : 3 ≤ d) (hb : τ fM_isBad 0 0 = 1) : c_m_name0 d τ = some (0, τ) := by
  obtain ⟨d, rfl⟩ : ∃ e, d = e + 1 := ⟨d - 1, by omega⟩
  rw [e_m_name0, mb_look (by omega) hb]; simp only [Option.bind_some]
  rw [s_m_isArt (by omega)]; simp only [Option.bind_some]
  rw [if_pos (by decide), e_m_name0_20, mb_run (by omega) hb]; rfl
theorem mb_art {d : Nat} (hd : 2 ≤ d) (hb : τ fM_isBad 0 0 = 1) : c_m_art d τ = some (0, τ) := by
  obtain ⟨d, rfl⟩ : ∃ e, d = e + 1 := ⟨d - 1, by omega⟩
  rw [e_m_art, mb_look (by omega) hb]; simp only [Option.bind_some]
  rw [s_m_isArt (by omega)]; simp only [Option.bind_some]
  rw [if_pos (by decide), mb_odd (by omega) hb]; rfl
theorem mb_more {d : Nat} (hd : 2 ≤ d) (hb : τ fM_isBad 0 0 = 1) : c_m_isMore d τ = some (0, τ) := by
  obtain ⟨d, rfl⟩ : ∃ e, d = e + 1 := ⟨d - 1, by omega⟩
  rw [e_m_isMore, mb_isNext (by omega) hb]; simp only [Option.bind_some]
  rw [if_pos trivial, mb_isNext (by omega) hb]; simp only [Option.bind_some]
  rw [if_pos trivial]
theorem mb_placing {d : Nat} (hd : 2 ≤ d) (hb : τ fM_isBad 0 0 = 1) : c_m_placing d τ = some (0, τ) := by
  obtain ⟨d, rfl⟩ : ∃ e, d = e + 1 := ⟨d - 1, by omega⟩
  rw [e_m_placing, mb_look (by omega) hb]; simp only [Option.bind_some]
  rw [if_neg (by decide), if_neg (by decide), if_neg (by decide), if_neg (by decide), if_neg (by decide), e_m_placing_59, if_pos rfl, mb_odd (by omega) hb]; rfl
theorem mb_what {d : Nat} (hd : 3 ≤ d) (hb : τ fM_isBad 0 0 = 1) : c_m_what d τ = some (0, ga_up τ fM_what 0 0 (τ fM_at 0 0)) := by
  obtain ⟨d, rfl⟩ : ∃ e, d = e + 1 := ⟨d - 1, by omega⟩
  have hb' : (ga_up τ fM_what 0 0 (τ fM_at 0 0)) fM_isBad 0 0 = 1 := by rw [up_F (by decide)]; exact hb
  rw [e_m_what, mb_look (by omega) hb']; simp only [Option.bind_some]
  rw [if_neg (by decide), if_neg (by decide), mb_run (by omega) hb']; rfl
theorem mb_thing {d : Nat} (hd : 4 ≤ d) (hb : τ fM_isBad 0 0 = 1) : ∃ τ', c_m_thing d τ = some (0, τ') ∧ fr [fM_thingSort, fM_thingRun, fM_thingAt] τ τ' := by
  obtain ⟨d, rfl⟩ : ∃ e, d = e + 1 := ⟨d - 1, by omega⟩
  have b1 : (ga_up τ fM_thingAt 0 0 (τ fM_at 0 0)) fM_isBad 0 0 = 1 := by rw [up_F (by decide)]; exact hb
  have b2 : (ga_up (ga_up τ fM_thingAt 0 0 (τ fM_at 0 0)) fM_thingSort 0 0 2) fM_isBad 0 0 = 1 := by rw [up_F (by decide), up_F (by decide)]; exact hb
  rw [e_m_thing, mb_isNext (by omega) b1]; simp only [Option.bind_some]
  rw [if_pos trivial, mb_isNext (by omega) b1]; simp only [Option.bind_some]
  rw [if_pos trivial, mb_isNext (by omega) b1]; simp only [Option.bind_some]
  rw [if_pos trivial, e_m_thing_108, mb_name (by omega) b2]; simp only [Option.bind_some]
  rw [if_neg (by omega), e_m_thing_145]
  exact ⟨_, rfl, fr_trans (fr_trans (fr_trans (fr_u (by decide)) (fr_u (by decide))) (fr_u (by decide))) (fr_u (by decide))⟩
end
/-! how many runs there can be; things -/
def JR (σ τ : ga_S) : Prop := 0 ≤ σ fR_runs 0 0 ∧ σ fR_runs 0 0 ≤ τ fM_runs 0 0 ∧ 2 * τ fM_runs 0 0 ≤ 5001 ∧ (σ fR_bad 0 0 = -1 → 2 * τ fM_runs 0 0 ≤ σ fR_p 0 0 + 1 ∧ (σ fT_kinds 0 (σ fR_p 0 0) = 0 → 2 * τ fM_runs 0 0 ≤ σ fR_p 0 0))
theorem JR_b {σ τ : ga_S} (h : JR σ τ) : (0 ≤ σ fR_runs 0 0 ∧ σ fR_runs 0 0 < 5000) ∧ (0 ≤ τ fM_runs 0 0 ∧ τ fM_runs 0 0 < 2600) := by
  obtain ⟨h1, h2, h3, _⟩ := h
  omega
/-- the place goes on, the runs stay -/
theorem JR_mv {σ τ σ' τ' : ga_S} (h : JR σ τ) (h1 : σ' fR_runs 0 0 = σ fR_runs 0 0) (h2 : τ' fM_runs 0 0 = τ fM_runs 0 0) (h3 : σ' fT_kinds = σ fT_kinds) (h4 : σ' fR_bad 0 0 = -1 → σ fR_bad 0 0 = -1 ∧ (σ' fR_p 0 0 = σ fR_p 0 0 ∨ σ fR_p 0 0 < σ' fR_p 0 0)) : JR σ' τ' := by
  obtain ⟨j1, j2, j3, j4⟩ := h
  unfold JR
  rw [h1, h2, h3]
  refine ⟨j1, j2, j3, fun z => ?_⟩
  have a := h4 z
  have b := j4 a.1
  rcases a.2 with e | e
  · rw [e]; exact b
  · exact ⟨by omega, fun _ => by omega⟩
theorem JR_run {σ τ σ' τ' : ga_S} {f : Int} {N : Nat} (h : JR σ τ) (hE : ENV σ τ f N) (h3 : σ' fT_kinds = σ fT_kinds) {a r : Int} (ha : σ fR_bad 0 0 = -1 → σ fR_p 0 0 ≤ a ∧ (a = σ fR_p 0 0 ∨ σ fR_p 0 0 < a)) (hb : σ fR_bad 0 0 = -1 ∧ rOk σ σ' τ τ' f N a r) (hN : σ' fR_p 0 0 ≤ N) (h0 : 0 ≤ a) : JR σ' τ' := by
  obtain ⟨j1, j2, j3, j4⟩ := h
  obtain ⟨hb0, g1, g2, g3, g4, g5, g6, g7, _⟩ := hb
  have a1 := ha hb0
  have b := j4 hb0
  have hN5 := hE.2.2.1
  have e : 2 * τ fM_runs 0 0 ≤ a := by
    rcases a1.2 with e | e
    · rw [e] at g5 ⊢; exact b.2 g5
    · omega
  have F := frE_r hE h0 (by omega : a ≤ N)
  unfold JR
  rw [g6, g7, h3]
  refine ⟨by omega, by omega, by omega, fun _ => ⟨by omega, fun z => ?_⟩⟩
  rw [g4] at z
  exact absurd z F.2.2.1
theorem JR_bad {σ τ σ' τ' : ga_S} (h : JR σ τ) (h1 : σ' fR_runs 0 0 = σ fR_runs 0 0) (h2 : τ' fM_runs 0 0 = τ fM_runs 0 0) (h4 : σ' fR_bad 0 0 ≠ -1) : JR σ' τ' := by
  obtain ⟨j1, j2, j3, j4⟩ := h
  unfold JR
  rw [h1, h2]
  exact ⟨j1, j2, j3, fun z => absurd z h4⟩
/-- the component's runs so far stay -/
def rKeepC (σ σ' : ga_S) : Prop := ∀ i, i < σ fR_runs 0 0 → σ' fR_runFrom 0 i = σ fR_runFrom 0 i ∧ σ' fR_runTo 0 i = σ fR_runTo 0 i
theorem rKeepC_trans {σ σ1 σ2 : ga_S} (h : rKeepC σ σ1) (hr : σ fR_runs 0 0 ≤ σ1 fR_runs 0 0) (h2 : rKeepC σ1 σ2) : rKeepC σ σ2 := fun i hi => by
  have a := h i hi
  have b := h2 i (by omega)
  exact ⟨b.1.trans a.1, b.2.trans a.2⟩
theorem rKeepC_eq {σ σ' : ga_S} (h2 : σ' fR_runFrom = σ fR_runFrom) (h3 : σ' fR_runTo = σ fR_runTo) : rKeepC σ σ' := fun i _ => by rw [h2, h3]; exact ⟨rfl, rfl⟩
theorem rOk_keepC {σ σ' τ τ' : ga_S} {f : Int} {N : Nat} {a r : Int} (h : rOk σ σ' τ τ' f N a r) : rKeepC σ σ' := by
  obtain ⟨-, -, -, -, -, -, -, h8, h9, -, -⟩ := h
  intro i hi
  rw [h8, h9, if_neg (by omega), if_neg (by omega)]
  exact ⟨rfl, rfl⟩
theorem rBad_keepC {σ σ' τ τ' : ga_S} (h : rBad σ σ' τ τ') : rKeepC σ σ' := rKeepC_eq h.2.2.2.1 h.2.2.2.2.1
/-- what a thing leaves -/
def thP (σ σ' τ τ' : ga_S) (f : Int) (N : Nat) : Prop := PR σ' τ' f N ∧ JR σ' τ' ∧ fr tcL σ σ' ∧ fr tmL τ τ' ∧ σ' fR_runs 0 0 = σ fR_runs 0 0 ∧ rKeepC σ σ' ∧ rKeep τ τ' ∧ (σ' fR_bad 0 0 = -1 → σ fR_bad 0 0 = -1 ∧ σ' fR_thingFrom 0 0 = σ fR_p 0 0 ∧ σ' fR_thingTo 0 0 = σ' fR_p 0 0 ∧ thR σ' τ' f (σ fR_p 0 0) (σ' fR_p 0 0) (τ' fM_thingSort 0 0) (τ' fM_thingAt 0 0) (τ' fM_thingRun 0 0))
theorem P_thing {σ τ : ga_S} {f : Int} {N : Nat} (hE : ENV σ τ f N) (h : PR σ τ f N) (hJ : JR σ τ) {d : Nat} (hd : 5 ≤ d) : ∃ σ' τ', c_r_thing d σ = some (0, σ') ∧ c_m_thing d τ = some (0, τ') ∧ thP σ σ' τ τ' f N := by
  obtain ⟨d, rfl⟩ : ∃ e, d = e + 1 := ⟨d - 1, by omega⟩
  have hf := hE.1
  have hN := hE.2.1
  have hR := h.1
  have hB := JR_b hJ
  -- the name
  have name : ∀ τ1, τ1 = ga_up (ga_up τ fM_thingAt 0 0 (τ fM_at 0 0)) fM_thingSort 0 0 2 → ∀ σ1, fr tcL σ σ1 → σ1 fR_p = σ fR_p → σ1 fR_bad = σ fR_bad → σ1 fR_runs = σ fR_runs → σ1 fR_runFrom = σ fR_runFrom → σ1 fR_runTo = σ fR_runTo → (σ fR_bad 0 0 = -1 → σ1 fR_thingFrom 0 0 = σ fR_p 0 0 ∧ σ fT_kinds 0 (σ fR_p 0 0) ≠ 63) →
      ∃ σ' τ', r_thing_101 d σ1 = some (0, σ') ∧ (c_m_name0 d τ1).bind (fun q4 => if (q4.2 fM_isBad 0 0) = 0 then ga_ck q4.1 2600 (m_thing_145 d (ga_up q4.2 fM_thingRun 0 0 q4.1) (q4.2 fM_runFrom 0 q4.1)) else m_thing_145 d (ga_up q4.2 fM_thingRun 0 0 q4.1) (q4.2 fM_at 0 0)) = some (0, τ') ∧ thP σ σ' τ τ' f N := by
    intro τ1 eτ σ1 f1 q1 q2 q3 q4 q5 q6
    have fτ : fr tmL τ τ1 := by rw [eτ]; exact fr_trans (fr_u (by decide)) (fr_u (by decide))
    have t1 : ∀ F, F ≠ fM_thingAt → F ≠ fM_thingSort → τ1 F = τ F := fun F a b => by rw [eτ, up_F b, up_F a]
    have E1 : ENV σ1 τ1 f N := ENV_c hE (f1 _ (by decide)) (t1 _ (by decide) (by decide))
    have P1 : PR σ1 τ1 f N := PR_c h q1 q2 (t1 _ (by decide) (by decide)) (t1 _ (by decide) (by decide)) (t1 _ (by decide) (by decide))
    obtain ⟨r, σ2, τ2, e1, e2, e3, e4, e5, e6⟩ := P_name E1 P1 (d := d) (by omega) (by rw [q3]; exact hB.1) (by rw [t1 fM_runs (by decide) (by decide)]; exact hB.2)
    have J1 : JR σ1 τ1 := JR_mv hJ (by rw [q3]) (by rw [t1 fM_runs (by decide) (by decide)]) (f1 _ (by decide)) (fun z => by rw [q2] at z; rw [q1]; exact ⟨z, Or.inl rfl⟩)
    have eR : r_thing_101 d σ1 = some (0, ga_up (ga_up σ2 fR_runs 0 0 (σ1 fR_runs 0 0)) fR_thingTo 0 0 (σ2 fR_p 0 0)) := by
      rw [e_r_thing_101, e1]; simp only [Option.bind_some]; rw [e_r_thing_115, up_F (F' := fR_p) (by decide)]
    have k2 : σ2 fT_kinds = σ fT_kinds := (e4 _ (by decide)).trans (f1 _ (by decide))
    rw [eR, e2]
    simp only [Option.bind_some, e_m_thing_145]
    rcases e6 with b | ⟨b0, b⟩
    · have hb := b.1
      have bad := (e3.2.resolve_left (fun z => hb z.1)).2.2.1
      rw [if_neg (by omega)]
      refine ⟨_, _, rfl, rfl, ?_, ?_, ?_, ?_, ?_, ?_, ?_, ?_⟩
      · exact PR_c e3 (by rw [up_F (by decide), up_F (by decide)]) (by rw [up_F (by decide), up_F (by decide)]) (by rw [up_F (by decide), up_F (by decide)]) (by rw [up_F (by decide), up_F (by decide)]) (by rw [up_F (by decide), up_F (by decide)])
      · refine JR_bad hJ ?_ ?_ ?_
        · rw [up_F (by decide), up_eq, q3]
        · rw [up_F (by decide), up_F (by decide), b.2.2.1, t1 fM_runs (by decide) (by decide)]
        · rw [up_F (by decide), up_F (by decide)]; exact hb
      · exact fr_trans (fr_trans f1 (fr_rc e4)) (fr_trans (fr_u (by decide)) (fr_u (by decide)))
      · exact fr_trans (fr_trans fτ (fr_rm e5)) (fr_trans (fr_u (by decide)) (fr_u (by decide)))
      · rw [up_F (by decide), up_eq, q3]
      · exact rKeepC_eq (by rw [up_F (by decide), up_F (by decide), b.2.2.2.1, q4]) (by rw [up_F (by decide), up_F (by decide), b.2.2.2.2.1, q5])
      · exact rKeep_eq (by rw [up_F (by decide), up_F (by decide), b.2.2.1, t1 _ (by decide) (by decide)]) (by rw [up_F (by decide), up_F (by decide), b.2.2.2.2.2.1, t1 _ (by decide) (by decide)]) (by rw [up_F (by decide), up_F (by decide), b.2.2.2.2.2.2, t1 _ (by decide) (by decide)])
      · intro z
        rw [up_F (by decide), up_F (by decide)] at z
        exact absurd z hb
    · have hb := b.1
      have ok := e3.2.resolve_right (fun z => by omega)
      have er := b.2.1
      have hr1 : τ1 fM_runs 0 0 = τ fM_runs 0 0 := by rw [t1 _ (by decide) (by decide)]
      have kc := rOk_keepC b
      have km := rOk_keep b
      have b0' : σ fR_bad 0 0 = -1 := by rw [← q2]; exact b0
      have q6' := q6 b0'
      rw [if_pos ok.2.1, ck_ok _ (by omega)]
      have JR2 : JR σ2 τ2 := JR_run J1 E1 (e4 _ (by decide)) (a := σ1 fR_p 0 0 + if artAt σ1 = true then 1 else 0) (r := r) (fun _ => by split <;> omega) ⟨b0, b⟩ ok.2.2.2.1 (by rw [q1]; split <;> omega)
      refine ⟨_, _, rfl, rfl, ?_, ?_, ?_, ?_, ?_, ?_, ?_, ?_⟩
      · exact PR_c e3 (by rw [up_F (by decide), up_F (by decide)]) (by rw [up_F (by decide), up_F (by decide)]) (by rw [up_F (by decide), up_F (by decide)]) (by rw [up_F (by decide), up_F (by decide)]) (by rw [up_F (by decide), up_F (by decide)])
      · obtain ⟨w1, w2, w3, w4⟩ := JR2
        obtain ⟨v1, v2, v3, v4⟩ := J1
        unfold JR
        rw [up_F (F' := fR_runs) (by decide), up_eq, up_F (F' := fM_runs) (by decide), up_F (F' := fM_runs) (by decide), up_F (F' := fR_bad) (by decide), up_F (F' := fR_bad) (by decide), up_F (F' := fR_p) (by decide), up_F (F' := fR_p) (by decide), up_F (F' := fT_kinds) (by decide), up_F (F' := fT_kinds) (by decide)]
        have := b.2.2.2.2.2.2.1
        exact ⟨v1, by omega, w3, w4⟩
      · exact fr_trans (fr_trans f1 (fr_rc e4)) (fr_trans (fr_u (by decide)) (fr_u (by decide)))
      · exact fr_trans (fr_trans fτ (fr_rm e5)) (fr_trans (fr_u (by decide)) (fr_u (by decide)))
      · rw [up_F (by decide), up_eq, q3]
      · intro i hi
        rw [up_F (by decide), up_F (by decide), up_F (by decide), up_F (by decide)]
        have := kc i (by rw [q3]; exact hi)
        rw [q4, q5] at this
        exact this
      · refine ⟨?_, fun i hi => ?_⟩
        · rw [up_F (by decide), up_F (by decide)]; have := km.1; omega
        · rw [up_F (by decide), up_F (by decide), up_F (by decide), up_F (by decide)]
          have := km.2 i (by omega)
          rw [t1 fM_runFrom (by decide) (by decide), t1 fM_runSize (by decide) (by decide)] at this
          exact this
      · intro _
        refine ⟨b0', ?_, ?_, ?_⟩
        · rw [up_F (by decide), up_F (by decide), e4 fR_thingFrom (by decide)]; exact q6'.1
        · rw [up_eq, up_F (by decide), up_F (by decide)]
        · have ra := b.2.2.2.2.2.2.2.2.2.1 r
          have rs := b.2.2.2.2.2.2.2.2.2.2 r
          rw [if_pos er] at ra rs
          have g3 := b.2.2.1
          have g4 := b.2.2.2.1
          have eart : (if artAt σ1 = true then (1 : Int) else 0) = if 9 ≤ σ fT_kinds 0 (σ fR_p 0 0) ∧ σ fT_kinds 0 (σ fR_p 0 0) ≤ 12 then 1 else 0 := by
            unfold artAt
            rw [q1, q2, f1 fT_kinds (by decide)]
            by_cases c : 9 ≤ σ fT_kinds 0 (σ fR_p 0 0) ∧ σ fT_kinds 0 (σ fR_p 0 0) ≤ 12
            · rw [if_pos (decide_eq_true ⟨b0', c⟩), if_pos c]
            · rw [if_neg (by rw [decide_eq_false (fun z => c z.2)]; decide), if_neg c]
          have a0 : 0 ≤ σ1 fR_p 0 0 + (if artAt σ1 = true then 1 else 0) := by rw [q1]; split <;> omega
          have F := frE_r E1 a0 (by have := ok.2.2.2.1; omega)
          have p2 : σ2 fR_p 0 0 = (ga_up (ga_up σ2 fR_runs 0 0 (σ1 fR_runs 0 0)) fR_thingTo 0 0 (σ2 fR_p 0 0)) fR_p 0 0 := by rw [up_F (by decide), up_F (by decide)]
          rw [← p2]
          unfold thR
          rw [up_F (F' := fT_kinds) (by decide), up_F (F' := fT_kinds) (by decide), k2]
          refine ⟨by rw [q1] at g3; split at g3 <;> omega, Or.inr (Or.inr ⟨q6'.2, σ1 fR_p 0 0 + (if artAt σ1 = true then 1 else 0), ?_, g3, ?_, ?_, ?_, ?_, ?_, ?_, ?_⟩)⟩
          · rw [eart, q1]
          · intro q h1 h2
            rw [g4] at h2
            have := F.2.2.2 q h1 h2
            rw [f1 fT_kinds (by decide)] at this
            exact this
          · rw [up_F (by decide), up_F (by decide), e5 fM_thingSort (by decide), eτ, up_eq]
          · rw [up_eq]; exact ra
          · rw [up_F (by decide), up_eq]; omega
          · rw [up_F (F' := fM_thingRun) (by decide), up_eq, up_F (F' := fM_runs) (by decide), up_F (F' := fM_runs) (by decide)]; have := b.2.2.2.2.2.2.1; omega
          · rw [up_F (F' := fM_thingRun) (by decide), up_eq, up_F (by decide), up_F (by decide)]; exact ra
          · rw [up_F (F' := fM_thingRun) (by decide), up_eq, up_F (by decide), up_F (by decide)]; exact rs
  by_cases cb : σ fR_bad 0 0 = -1
  · have ok := h.2.resolve_right (fun z => by omega)
    have E0 : ENV σ (ga_up τ fM_thingAt 0 0 (τ fM_at 0 0)) f N := ENV_c hE rfl (up_F (by decide) ..)
    have P0 : PR σ (ga_up τ fM_thingAt 0 0 (τ fM_at 0 0)) f N := PR_c h rfl rfl (up_F (by decide) ..) (up_F (by decide) ..) (up_F (by decide) ..)
    have f1 : fr tcL σ (ga_up σ fR_thingFrom 0 0 (σ fR_p 0 0)) := fr_u (by decide)
    have kk : (ga_up σ fR_thingFrom 0 0 (σ fR_p 0 0)) fT_kinds = σ fT_kinds := up_F (by decide) ..
    have pp : (ga_up σ fR_thingFrom 0 0 (σ fR_p 0 0)) fR_p = σ fR_p := up_F (by decide) ..
    -- a thing of n tokens that is no name
    have short : ∀ n s, 1 ≤ n → σ fR_p 0 0 + n ≤ N → thR σ τ f (σ fR_p 0 0) (σ fR_p 0 0 + n) s (f + σ fR_p 0 0) 0 → (s = 0 ∨ s = 1) → thP σ (ga_up (ga_up (ga_up σ fR_thingFrom 0 0 (σ fR_p 0 0)) fR_p 0 0 (σ fR_p 0 0 + n)) fR_thingTo 0 0 (σ fR_p 0 0 + n)) τ (ga_up (ga_up (ga_up τ fM_thingAt 0 0 (τ fM_at 0 0)) fM_thingSort 0 0 s) fM_at 0 0 (τ fM_at 0 0 + n)) f N := by
      intro n s h1 h2 h3 h4
      have ps := PR_step h cb (by omega : 0 ≤ n) h2
      refine ⟨?_, ?_, ?_, ?_, ?_, ?_, ?_, fun _ => ⟨cb, ?_, ?_, ?_⟩⟩
      · refine PR_c ps ?_ ?_ ?_ ?_ ?_
        · funext a b; rw [up_F (by decide), up_nat, up_nat, up_F (by decide)]
        · rw [up_F (by decide), up_F (by decide), up_F (by decide), up_F (by decide)]
        · funext a b; rw [up_nat, up_nat, up_F (by decide), up_F (by decide)]
        · rw [up_F (by decide), up_F (by decide), up_F (by decide), up_F (by decide)]
        · rw [up_F (by decide), up_F (by decide), up_F (by decide), up_F (by decide)]
      · refine JR_mv hJ ?_ ?_ ?_ (fun _ => ⟨cb, Or.inr ?_⟩)
        · rw [up_F (by decide), up_F (by decide), up_F (by decide)]
        · rw [up_F (by decide), up_F (by decide), up_F (by decide)]
        · rw [up_F (by decide), up_F (by decide), up_F (by decide)]
        · rw [up_F (by decide), up_eq]; omega
      · exact fr_trans (fr_trans (fr_u (by decide)) (fr_u (by decide))) (fr_u (by decide))
      · exact fr_trans (fr_trans (fr_u (by decide)) (fr_u (by decide))) (fr_u (by decide))
      · rw [up_F (by decide), up_F (by decide), up_F (by decide)]
      · exact rKeepC_eq (by rw [up_F (by decide), up_F (by decide), up_F (by decide)]) (by rw [up_F (by decide), up_F (by decide), up_F (by decide)])
      · exact rKeep_eq (by rw [up_F (by decide), up_F (by decide), up_F (by decide)]) (by rw [up_F (by decide), up_F (by decide), up_F (by decide)]) (by rw [up_F (by decide), up_F (by decide), up_F (by decide)])
      · rw [up_F (by decide), up_F (by decide), up_eq]
      · rw [up_eq, up_F (by decide), up_eq]
      · rw [up_F (F' := fR_p) (by decide), up_eq, up_F (F' := fM_thingSort) (by decide), up_eq, up_F (F' := fM_thingAt) (by decide), up_F (F' := fM_thingAt) (by decide), up_eq, ok.2.2.2.2]
        obtain ⟨g0, g | g | g⟩ := h3
        · refine ⟨g0, Or.inl ?_⟩
          rw [up_F (by decide), up_F (by decide), up_F (by decide)]; exact g
        · refine ⟨g0, Or.inr (Or.inl ?_)⟩
          rw [up_F (by decide), up_F (by decide), up_F (by decide)]; exact g
        · obtain ⟨_, _, _, _, _, g6, _⟩ := g
          omega
    rw [e_r_thing, e_m_thing, if_pos cb, s_r_is (by omega) (by omega), s_nx E0 P0 (by omega) (c := 63) (by decide) (by omega)]
    simp only [Option.bind_some]
    rw [kk]
    by_cases c1 : σ fT_kinds 0 (σ fR_p 0 0) = 63
    · have lt := ENV_lt hE ok.2.2.2.1 c1 (by omega) (by omega)
      rw [decide_eq_true c1, decide_eq_true ⟨cb, c1⟩, if_neg b2i_n, if_neg b2i_n, e_r_thing_45, e_r_thing_115, pp, up_eq, w32_ok (by omega), up_F (F' := fM_at) (by decide), w32_ok (by omega)]
      exact ⟨_, _, rfl, rfl, short 1 0 (by omega) (by omega) ⟨by omega, Or.inl ⟨c1, rfl, rfl, rfl⟩⟩ (Or.inl rfl)⟩
    · rw [decide_eq_false c1, decide_eq_false (fun z => c1 z.2), if_pos b2i_f, if_pos b2i_f, pp, s_r_is (by omega) (by omega), s_nx E0 P0 (by omega) (c := 62) (by decide) (by omega)]
      simp only [Option.bind_some]
      rw [kk]
      by_cases c2 : σ fT_kinds 0 (σ fR_p 0 0) = 62
      · have lt := ENV_lt hE ok.2.2.2.1 c2 (by omega) (by omega)
        have i : τ fM_token 0 (f + σ fR_p 0 0) = 102 ↔ σ fT_kinds 0 (σ fR_p 0 0) = 11 := ENV_is hE (by omega) (by omega) (c := 11) (by omega)
        rw [decide_eq_true c2, decide_eq_true ⟨cb, c2⟩, if_neg b2i_n, if_neg b2i_n, e_r_thing_45, e_r_thing_115, pp, up_eq, w32_ok (by omega), e_m_thing_72, up_F (F' := fM_at) (by decide), ck_ok _ (by omega), up_F (F' := fM_token) (by decide), ok.2.2.2.2, if_neg (fun z => by have := i.mp z; omega), e_m_thing_101, w32_ok (by omega)]
        rw [← ok.2.2.2.2]
        exact ⟨_, _, rfl, rfl, short 1 1 (by omega) (by omega) ⟨by omega, Or.inr (Or.inl ⟨c1, by rw [show σ fR_p 0 0 + 1 - 1 = σ fR_p 0 0 by omega]; exact c2, Or.inl rfl, rfl, rfl⟩)⟩ (Or.inr rfl)⟩
      · rw [decide_eq_false c2, decide_eq_false (fun z => c2 z.2), if_pos b2i_f, if_pos b2i_f, pp, s_r_is (by omega) (by omega), s_nx E0 P0 (by omega) (c := 11) (by decide) (by omega)]
        simp only [Option.bind_some]
        rw [kk]
        have nm := name _ rfl (ga_up σ fR_thingFrom 0 0 (σ fR_p 0 0)) f1 pp (up_F (by decide) ..) (up_F (by decide) ..) (up_F (by decide) ..) (up_F (by decide) ..) (fun _ => ⟨up_eq .., c1⟩)
        by_cases c3 : σ fT_kinds 0 (σ fR_p 0 0) = 11
        · have lt := ENV_lt hE ok.2.2.2.1 c3 (by omega) (by omega)
          have i : τ fM_token 0 (f + σ fR_p 0 0) = 102 ↔ σ fT_kinds 0 (σ fR_p 0 0) = 11 := ENV_is hE (by omega) (by omega) (c := 11) (by omega)
          have i2 : τ fM_token 0 (f + (σ fR_p 0 0 + 1)) = 153 ↔ σ fT_kinds 0 (σ fR_p 0 0 + 1) = 62 := ENV_is hE (by omega) (by omega) (c := 62) (by omega)
          rw [decide_eq_true c3, decide_eq_true ⟨cb, c3⟩, if_neg b2i_n, if_neg b2i_n, pp, w32_ok (by omega), s_r_is (by omega) (by omega)]
          simp only [Option.bind_some]
          rw [kk, up_F (F' := fM_at) (by decide), w32_ok (x := τ fM_at 0 0 + 1) (by omega), ck_ok (i := τ fM_at 0 0 + 1) _ (by omega), up_F (F' := fM_token) (by decide), ok.2.2.2.2, show f + σ fR_p 0 0 + 1 = f + (σ fR_p 0 0 + 1) by omega]
          by_cases c4 : σ fT_kinds 0 (σ fR_p 0 0 + 1) = 62
          · have lt2 := ENV_lt hE (by omega) c4 (by omega) (by omega)
            rw [decide_eq_true c4, if_neg b2i_n, if_pos (i2.mpr c4), pp, w32_ok (by omega), e_r_thing_115, up_eq, e_m_thing_72, up_F (F' := fM_at) (by decide), ck_ok _ (by omega), up_F (F' := fM_token) (by decide), ok.2.2.2.2, if_pos (i.mpr c3), e_m_thing_101, w32_ok (by omega)]
            rw [← ok.2.2.2.2]
            exact ⟨_, _, rfl, rfl, short 2 1 (by omega) (by omega) ⟨by omega, Or.inr (Or.inl ⟨c1, by rw [show σ fR_p 0 0 + 2 - 1 = σ fR_p 0 0 + 1 by omega]; exact c4, Or.inr ⟨rfl, c3⟩, rfl, rfl⟩)⟩ (Or.inr rfl)⟩
          · rw [decide_eq_false c4, if_pos b2i_f, if_neg (fun z => c4 (i2.mp z)), ← ok.2.2.2.2, e_m_thing_108]
            exact nm
        · rw [decide_eq_false c3, decide_eq_false (fun z => c3 z.2), if_pos b2i_f, if_pos b2i_f, e_m_thing_108]
          exact nm
  · have bad := h.2.resolve_left (fun z => cb z.1)
    obtain ⟨τ', e1, e2⟩ := mb_thing (τ := τ) (d := d + 1) (by omega) bad.2.2.1
    rw [e_r_thing, if_neg cb, e1]
    have e3 : fr tmL τ τ' := fr_sub e2 (by decide)
    refine ⟨σ, τ', rfl, rfl, ?_, ?_, fr_refl _ _, e3, rfl, fun i _ => ⟨rfl, rfl⟩, ?_, fun z => absurd z cb⟩
    · exact PR_c h rfl rfl (e2 _ (by decide)) (e2 _ (by decide)) (e2 _ (by decide))
    · exact JR_bad hJ rfl (by rw [e2 _ (by decide)]) cb
    · exact rKeep_eq (e2 _ (by decide)) (e2 _ (by decide)) (e2 _ (by decide))

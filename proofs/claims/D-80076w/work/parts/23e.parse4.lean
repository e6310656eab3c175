/-! the component where it is wrong already -/
section
variable {σ : ga_S}
theorem cb_wrong {d : Nat} (hd : 1 ≤ d) (hb : σ fR_bad 0 0 ≠ -1) : c_r_wrong d σ = some (0, σ) := by
  rw [s_r_wrong hd, if_neg hb, up_self]
theorem cb_take {d : Nat} (hd : 2 ≤ d) (hb : σ fR_bad 0 0 ≠ -1) (c : Int) : c_r_take d σ c = some (0, σ) := by
  obtain ⟨d, rfl⟩ : ∃ e, d = e + 1 := ⟨d - 1, by omega⟩
  rw [e_r_take, if_neg hb, e_r_take_24, cb_wrong (by omega) hb]; simp only [Option.bind_some]; rw [z1_ok _ (by omega)]
theorem cb_takes {d : Nat} (hd : 1 ≤ d) (hb : σ fR_bad 0 0 ≠ -1) (hp : 0 ≤ σ fR_p 0 0 ∧ σ fR_p 0 0 ≤ 5002) (c : Int) : c_r_takes d σ c = some (0, σ) := by
  obtain ⟨d, rfl⟩ : ∃ e, d = e + 1 := ⟨d - 1, by omega⟩
  rw [e_r_takes, if_neg hb, e_r_takes_28, e_r_takes_29, if_pos rfl, e_r_takes_44, z1_ok _ (by omega), Int.add_zero, w32_ok (by omega), up_self]
theorem cb_run {d : Nat} (hd : 2 ≤ d) (hb : σ fR_bad 0 0 ≠ -1) : c_r_run d σ = some (0, σ) := by
  obtain ⟨d, rfl⟩ : ∃ e, d = e + 1 := ⟨d - 1, by omega⟩
  rw [e_r_run, if_neg hb, e_r_run_19, cb_wrong (by omega) hb]; rfl
theorem cb_article {d : Nat} (hd : 1 ≤ d) (hb : σ fR_bad 0 0 ≠ -1) (hp : 0 ≤ σ fR_p 0 0 ∧ σ fR_p 0 0 ≤ 5002) : c_r_article d σ = some (0, σ) := by
  obtain ⟨d, rfl⟩ : ∃ e, d = e + 1 := ⟨d - 1, by omega⟩
  rw [e_r_article, if_neg hb, e_r_article_35, e_r_article_36, Int.add_zero, w32_ok (by omega), up_self]
theorem cb_name {d : Nat} (hd : 3 ≤ d) (hb : σ fR_bad 0 0 ≠ -1) (hp : 0 ≤ σ fR_p 0 0 ∧ σ fR_p 0 0 ≤ 5002) : c_r_name d σ = some (0, σ) := by
  obtain ⟨d, rfl⟩ : ∃ e, d = e + 1 := ⟨d - 1, by omega⟩
  rw [e_r_name, cb_article (by omega) hb hp]; simp only [Option.bind_some]; rw [cb_run (by omega) hb]; rfl
theorem cb_needArt {d : Nat} (hd : 2 ≤ d) (hb : σ fR_bad 0 0 ≠ -1) : c_r_needArticle d σ = some (0, σ) := by
  obtain ⟨d, rfl⟩ : ∃ e, d = e + 1 := ⟨d - 1, by omega⟩
  rw [e_r_needArticle, if_neg hb, e_r_needArticle_26, cb_wrong (by omega) hb]; rfl
theorem cb_sep {d : Nat} (hd : 2 ≤ d) (hb : σ fR_bad 0 0 ≠ -1) (hp : 0 ≤ σ fR_p 0 0 ∧ σ fR_p 0 0 ≤ 5002) : c_r_separator d σ = some (0, σ) := by
  obtain ⟨d, rfl⟩ : ∃ e, d = e + 1 := ⟨d - 1, by omega⟩
  rw [e_r_separator, cb_takes (by omega) hb hp]; simp only [Option.bind_some]
  rw [if_pos trivial, cb_takes (by omega) hb hp]; simp only [Option.bind_some]
  rw [z1_ok _ (by omega)]
theorem cb_be {d : Nat} (hd : 2 ≤ d) (hb : σ fR_bad 0 0 ≠ -1) : c_r_be d σ = some (0, σ) := by
  obtain ⟨d, rfl⟩ : ∃ e, d = e + 1 := ⟨d - 1, by omega⟩
  rw [e_r_be, if_neg hb, e_r_be_65, cb_wrong (by omega) hb]; rfl
theorem cb_what {d : Nat} (hd : 3 ≤ d) (hb : σ fR_bad 0 0 ≠ -1) (hp : 0 ≤ σ fR_p 0 0 ∧ σ fR_p 0 0 ≤ 5002) : c_r_what d σ = some (0, ga_up σ fR_whatAt 0 0 (σ fR_p 0 0)) := by
  obtain ⟨d, rfl⟩ : ∃ e, d = e + 1 := ⟨d - 1, by omega⟩
  have b1 : (ga_up σ fR_whatAt 0 0 (σ fR_p 0 0)) fR_bad 0 0 ≠ -1 := by rw [up_F (by decide)]; exact hb
  have p1 : 0 ≤ (ga_up σ fR_whatAt 0 0 (σ fR_p 0 0)) fR_p 0 0 ∧ (ga_up σ fR_whatAt 0 0 (σ fR_p 0 0)) fR_p 0 0 ≤ 5002 := by rw [up_F (by decide)]; exact hp
  rw [e_r_what, cb_takes (by omega) b1 p1]; simp only [Option.bind_some]
  rw [if_pos trivial, cb_takes (by omega) b1 p1]; simp only [Option.bind_some]
  rw [if_pos trivial, cb_run (by omega) b1]; rfl
theorem cb_end {d : Nat} (hd : 1 ≤ d) (hb : σ fR_bad 0 0 ≠ -1) (t : Int) : c_r_end d σ t = some (0, σ) := by
  obtain ⟨d, rfl⟩ : ∃ e, d = e + 1 := ⟨d - 1, by omega⟩
  rw [e_r_end, if_neg hb]
theorem cb_thing {d : Nat} (hd : 1 ≤ d) (hb : σ fR_bad 0 0 ≠ -1) : c_r_thing d σ = some (0, σ) := by
  obtain ⟨d, rfl⟩ : ∃ e, d = e + 1 := ⟨d - 1, by omega⟩
  rw [e_r_thing, if_neg hb]
end
/-! places, what is told -/
def plS (k : Int) : Int := if k = 17 then 1 else if k = 18 then 2 else if k = 38 then 3 else if k = 39 then 4 else if k = 40 then 5 else 0
theorem s_r_isPlace {σ : ga_S} {d : Nat} (hd : 2 ≤ d) (hp : 0 ≤ σ fR_p 0 0 ∧ σ fR_p 0 0 < 5002) : c_r_isPlace d σ = some (b2i (decide (plS (σ fT_kinds 0 (σ fR_p 0 0)) ≠ 0)), σ) := by
  obtain ⟨d, rfl⟩ : ∃ e, d = e + 1 := ⟨d - 1, by omega⟩
  have y := e_r_isPlace_70 d σ
  rw [e_r_isPlace, s_r_is (by omega) hp]; simp only [Option.bind_some]
  unfold plS
  by_cases c1 : σ fT_kinds 0 (σ fR_p 0 0) = 17
  · rw [decide_eq_true c1, if_neg b2i_n, y]; simp [c1, b2i]
  · rw [decide_eq_false c1, if_pos b2i_f, s_r_is (by omega) hp]; simp only [Option.bind_some]
    by_cases c2 : σ fT_kinds 0 (σ fR_p 0 0) = 18
    · rw [decide_eq_true c2, if_neg b2i_n, y]; simp [c2, b2i]
    · rw [decide_eq_false c2, if_pos b2i_f, s_r_is (by omega) hp]; simp only [Option.bind_some]
      by_cases c3 : σ fT_kinds 0 (σ fR_p 0 0) = 38
      · rw [decide_eq_true c3, if_neg b2i_n, y]; simp [c3, b2i]
      · rw [decide_eq_false c3, if_pos b2i_f, s_r_is (by omega) hp]; simp only [Option.bind_some]
        by_cases c4 : σ fT_kinds 0 (σ fR_p 0 0) = 39
        · rw [decide_eq_true c4, if_neg b2i_n, y]; simp [c4, b2i]
        · rw [decide_eq_false c4, if_pos b2i_f, s_r_is (by omega) hp]; simp only [Option.bind_some]
          by_cases c5 : σ fT_kinds 0 (σ fR_p 0 0) = 40
          · rw [decide_eq_true c5, if_neg b2i_n, y]; simp [c5, b2i]
          · rw [decide_eq_false c5, if_pos b2i_f]; simp [c1, c2, c3, c4, c5, b2i]
/-- the model's placing: what stands there -/
theorem s_m_placing {σ τ : ga_S} {f : Int} {N : Nat} (hE : ENV σ τ f N) (h : PR σ τ f N) (hb : σ fR_bad 0 0 = -1) {d : Nat} (hd : 1 ≤ d) : c_m_placing (d + 1) τ = m_placing_59 d τ (plS (σ fT_kinds 0 (σ fR_p 0 0))) := by
  have ok := h.2.resolve_right (fun z => by omega)
  have k := hE.2.2.2.1 _ ok.2.2.1 ok.2.2.2.1
  have key : ∀ c m : Int, m = cdM c → 0 ≤ c ∧ c < 64 → (cdM (σ fT_kinds 0 (σ fR_p 0 0)) = m ↔ σ fT_kinds 0 (σ fR_p 0 0) = c) := fun c m hm hc => by rw [hm]; exact cdM_inj ⟨k.1, k.2.1⟩ hc
  have k1 := key 17 108 (by decide) (by omega)
  have k2 := key 18 109 (by decide) (by omega)
  have k3 := key 38 129 (by decide) (by omega)
  have k4 := key 39 130 (by decide) (by omega)
  have k5 := key 40 131 (by decide) (by omega)
  rw [e_m_placing, s_m_look hE h hd]; simp only [Option.bind_some]
  rw [if_pos hb]
  unfold plS
  by_cases c1 : σ fT_kinds 0 (σ fR_p 0 0) = 17
  · rw [if_pos (k1.mpr c1), if_pos c1]
  · rw [if_neg (fun z => c1 (k1.mp z)), if_neg c1]
    by_cases c2 : σ fT_kinds 0 (σ fR_p 0 0) = 18
    · rw [if_pos (k2.mpr c2), if_pos c2]
    · rw [if_neg (fun z => c2 (k2.mp z)), if_neg c2]
      by_cases c3 : σ fT_kinds 0 (σ fR_p 0 0) = 38
      · rw [if_pos (k3.mpr c3), if_pos c3]
      · rw [if_neg (fun z => c3 (k3.mp z)), if_neg c3]
        by_cases c4 : σ fT_kinds 0 (σ fR_p 0 0) = 39
        · rw [if_pos (k4.mpr c4), if_pos c4]
        · rw [if_neg (fun z => c4 (k4.mp z)), if_neg c4]
          by_cases c5 : σ fT_kinds 0 (σ fR_p 0 0) = 40
          · rw [if_pos (k5.mpr c5), if_pos c5]
          · rw [if_neg (fun z => c5 (k5.mp z)), if_neg c5]
theorem plS_r (k : Int) : 0 ≤ plS k ∧ plS k ≤ 5 := by
  unfold plS
  repeat' split
  all_goals omega
def wcL : List Nat := [fR_p, fR_bad, fR_placeSort]
theorem P_place {σ τ : ga_S} {f : Int} {N : Nat} (hE : ENV σ τ f N) (h : PR σ τ f N) (hb : σ fR_bad 0 0 = -1) (hw : plS (σ fT_kinds 0 (σ fR_p 0 0)) ≠ 0) {d : Nat} (hd : 3 ≤ d) : ∃ σ' τ', c_r_placeWords d σ = some (0, σ') ∧ c_m_placing d τ = some (plS (σ fT_kinds 0 (σ fR_p 0 0)), τ') ∧ PR σ' τ' f N ∧ fr wcL σ σ' ∧ fr pmL τ τ' ∧ σ' fR_placeSort 0 0 = plS (σ fT_kinds 0 (σ fR_p 0 0)) ∧ (σ' fR_bad 0 0 = -1 → σ fR_p 0 0 < σ' fR_p 0 0) ∧ (σ' fR_bad 0 0 = -1 → ∀ q, σ fR_p 0 0 ≤ q → q < σ' fR_p 0 0 → 16 ≤ σ fT_kinds 0 q ∧ σ fT_kinds 0 q ≤ 40 ∧ σ fT_kinds 0 q ≠ 25) := by
  obtain ⟨d, rfl⟩ : ∃ e, d = e + 1 := ⟨d - 1, by omega⟩
  have hf := hE.1
  have hN := hE.2.1
  have hR := h.1
  have ok := h.2.resolve_right (fun z => by omega)
  rw [s_m_placing hE h hb (by omega), e_r_placeWords, ck_ok _ (by omega)]
  have go : ∀ w : Int, plS (σ fT_kinds 0 (σ fR_p 0 0)) = w → (∃ c, σ fT_kinds 0 (σ fR_p 0 0) = c ∧ c ≠ 3 ∧ c ≠ 8 ∧ (16 ≤ c ∧ c ≤ 40 ∧ c ≠ 25) ∧ ((w = 1 ∨ w = 2) ∧ c ≠ 38 ∧ c ≠ 39 ∧ c ≠ 40 ∨ w = 3 ∧ c = 38 ∨ w = 4 ∧ c = 39 ∨ w = 5 ∧ c = 40)) → ∃ σ' τ', r_placeWords_59 d σ (σ fT_kinds 0 (σ fR_p 0 0)) w = some (0, σ') ∧ m_placing_59 d τ w = some (w, τ') ∧ PR σ' τ' f N ∧ fr wcL σ σ' ∧ fr pmL τ τ' ∧ σ' fR_placeSort 0 0 = w ∧ (σ' fR_bad 0 0 = -1 → σ fR_p 0 0 < σ' fR_p 0 0) ∧ (σ' fR_bad 0 0 = -1 → ∀ q, σ fR_p 0 0 ≤ q → q < σ' fR_p 0 0 → 16 ≤ σ fT_kinds 0 q ∧ σ fT_kinds 0 q ≤ 40 ∧ σ fT_kinds 0 q ≠ 25) := by
    intro w hw' ⟨c, hc, h3, h8, hcc, hcase⟩
    obtain ⟨P1, lt, ea⟩ := PR_1 hE h ⟨hb, hc⟩ h3 h8
    have s1 : ga_up (ga_up σ fR_placeSort 0 0 w) fR_p 0 0 (w32 (σ fR_p 0 0 + 1)) = ga_up (ga_up σ fR_p 0 0 (σ fR_p 0 0 + 1)) fR_placeSort 0 0 w := by
      rw [w32_ok (by omega), up_comm (by decide)]
    have P2 : PR (ga_up (ga_up σ fR_p 0 0 (σ fR_p 0 0 + 1)) fR_placeSort 0 0 w) (ga_up τ fM_at 0 0 (τ fM_at 0 0 + 1)) f N := PR_c P1 (up_F (by decide) ..) (up_F (by decide) ..) rfl rfl rfl
    have E2 : ENV (ga_up (ga_up σ fR_p 0 0 (σ fR_p 0 0 + 1)) fR_placeSort 0 0 w) (ga_up τ fM_at 0 0 (τ fM_at 0 0 + 1)) f N := ENV_c hE (by rw [up_F (by decide), up_F (by decide)]) (up_F (by decide) ..)
    have ft : ∀ c2 m : Int, m = cdM c2 → 0 ≤ c2 ∧ c2 < 64 → c2 ≠ 3 → c2 ≠ 8 → (16 ≤ c2 ∧ c2 ≤ 40 ∧ c2 ≠ 25) → ∃ v σ' τ', c_r_take d (ga_up (ga_up σ fR_p 0 0 (σ fR_p 0 0 + 1)) fR_placeSort 0 0 w) c2 = some (v, σ') ∧ c_m_take d (ga_up τ fM_at 0 0 (τ fM_at 0 0 + 1)) m = some (0, τ') ∧ PR σ' τ' f N ∧ fr wcL σ σ' ∧ fr pmL τ τ' ∧ σ' fR_placeSort 0 0 = w ∧ (σ' fR_bad 0 0 = -1 → σ fR_p 0 0 < σ' fR_p 0 0) ∧ (σ' fR_bad 0 0 = -1 → ∀ q, σ fR_p 0 0 ≤ q → q < σ' fR_p 0 0 → 16 ≤ σ fT_kinds 0 q ∧ σ fT_kinds 0 q ≤ 40 ∧ σ fT_kinds 0 q ≠ 25) := by
      intro c2 m hm hc2 n3 n8 nc
      obtain ⟨v, σ', τ', e1, e2, e3, e4, e5, e6, e7⟩ := P_take' E2 P2 (d := d) (by omega) hm hc2 n3 n8
      refine ⟨v, σ', τ', e1, e2, e3, fr_trans (fr_trans (fr_u (by decide)) (fr_u (by decide))) (fr_sub e4 (by decide)), fr_trans (fr_u (by decide)) e5, ?_, fun z => ?_, fun z q h1 h2 => ?_⟩
      · rw [e4 _ (by decide), up_eq]
      · have := e7 z
        rw [up_F (by decide), up_eq] at this
        omega
      · have := e7 z
        rw [up_F (by decide), up_eq] at this
        have k := (e6.mp z).2
        rw [up_F (F' := fR_p) (by decide), up_eq, up_F (F' := fT_kinds) (by decide), up_F (F' := fT_kinds) (by decide)] at k
        by_cases cq : q = σ fR_p 0 0
        · rw [cq, hc]; exact hcc
        · rw [show q = σ fR_p 0 0 + 1 by omega, k]; exact nc
    rw [e_r_placeWords_59, s1, e_m_placing_59, if_neg (show ¬ w = 0 by omega), w32_ok (by omega), hc]
    rcases hcase with ⟨hw2, n1, n2, n3⟩ | ⟨hw2, hc2⟩ | ⟨hw2, hc2⟩ | ⟨hw2, hc2⟩
    · rw [if_neg n1, if_neg n2, if_neg n3, if_neg (show ¬ 2 < w by omega)]
      refine ⟨_, _, rfl, rfl, P2, fr_trans (fr_u (by decide)) (fr_u (by decide)), fr_u (by decide), up_eq .., fun _ => ?_, fun _ q h1 h2 => ?_⟩
      · rw [up_F (by decide), up_eq]; omega
      · rw [up_F (by decide), up_eq] at h2
        rw [show q = σ fR_p 0 0 by omega, hc]; exact hcc
    · obtain ⟨v, σ', τ', e1, e2, e3, e4, e5, e6, e7, e8⟩ := ft 16 107 (by decide) (by omega) (by omega) (by omega) (by omega)
      rw [if_pos hc2, e1, if_pos (show 2 < w by omega), if_pos (show w = 3 by omega), e_m_placing_98, e2]
      exact ⟨_, _, rfl, rfl, e3, e4, e5, e6, e7, e8⟩
    · obtain ⟨v, σ', τ', e1, e2, e3, e4, e5, e6, e7, e8⟩ := ft 19 110 (by decide) (by omega) (by omega) (by omega) (by omega)
      rw [if_neg (show ¬ c = 38 by omega), if_pos hc2, e_r_placeWords_104, e1, if_pos (show 2 < w by omega), if_neg (show ¬ w = 3 by omega), e_m_placing_98, e2]
      exact ⟨_, _, rfl, rfl, e3, e4, e5, e6, e7, e8⟩
    · obtain ⟨v, σ', τ', e1, e2, e3, e4, e5, e6, e7, e8⟩ := ft 19 110 (by decide) (by omega) (by omega) (by omega) (by omega)
      rw [if_neg (show ¬ c = 38 by omega), if_neg (show ¬ c = 39 by omega), if_pos hc2, e_r_placeWords_104, e1, if_pos (show 2 < w by omega), if_neg (show ¬ w = 3 by omega), e_m_placing_98, e2]
      exact ⟨_, _, rfl, rfl, e3, e4, e5, e6, e7, e8⟩
  by_cases c1 : σ fT_kinds 0 (σ fR_p 0 0) = 17
  · have e : plS (σ fT_kinds 0 (σ fR_p 0 0)) = 1 := by unfold plS; rw [if_pos c1]
    rw [if_pos c1, e]
    exact go 1 e ⟨17, c1, by omega, by omega, by omega, by omega⟩
  · rw [if_neg c1]
    by_cases c2 : σ fT_kinds 0 (σ fR_p 0 0) = 18
    · have e : plS (σ fT_kinds 0 (σ fR_p 0 0)) = 2 := by unfold plS; rw [if_neg c1, if_pos c2]
      rw [if_pos c2, e]
      exact go 2 e ⟨18, c2, by omega, by omega, by omega, by omega⟩
    · rw [if_neg c2]
      by_cases c3 : σ fT_kinds 0 (σ fR_p 0 0) = 38
      · have e : plS (σ fT_kinds 0 (σ fR_p 0 0)) = 3 := by unfold plS; rw [if_neg c1, if_neg c2, if_pos c3]
        rw [if_pos c3, e]
        exact go 3 e ⟨38, c3, by omega, by omega, by omega, by omega⟩
      · rw [if_neg c3]
        by_cases c4 : σ fT_kinds 0 (σ fR_p 0 0) = 39
        · have e : plS (σ fT_kinds 0 (σ fR_p 0 0)) = 4 := by unfold plS; rw [if_neg c1, if_neg c2, if_neg c3, if_pos c4]
          rw [if_pos c4, e]
          exact go 4 e ⟨39, c4, by omega, by omega, by omega, by omega⟩
        · rw [if_neg c4]
          have c5 : σ fT_kinds 0 (σ fR_p 0 0) = 40 := by
            unfold plS at hw
            rw [if_neg c1, if_neg c2, if_neg c3, if_neg c4] at hw
            by_cases c : σ fT_kinds 0 (σ fR_p 0 0) = 40
            · exact c
            · rw [if_neg c] at hw; exact absurd rfl hw
          have e : plS (σ fT_kinds 0 (σ fR_p 0 0)) = 5 := by unfold plS; rw [if_neg c1, if_neg c2, if_neg c3, if_neg c4, if_pos c5]
          rw [e]
          exact go 5 e ⟨40, c5, by omega, by omega, by omega, by omega⟩
/-- what is told: a number, a text, or a run -/
def wtC : List Nat := [fR_p, fR_bad, fR_runs, fR_runFrom, fR_runTo, fR_whatAt]
def wtM : List Nat := [fM_at, fM_isBad, fM_badAt, fM_runs, fM_runFrom, fM_runSize, fM_what]
theorem P_what {σ τ : ga_S} {f : Int} {N : Nat} (hE : ENV σ τ f N) (h : PR σ τ f N) (hJ : JR σ τ) (hb : σ fR_bad 0 0 = -1) {d : Nat} (hd : 3 ≤ d) : ∃ σ' τ', c_r_what d σ = some (0, σ') ∧ c_m_what d τ = some (0, τ') ∧ PR σ' τ' f N ∧ fr wtC σ σ' ∧ fr wtM τ τ' ∧ σ' fR_whatAt 0 0 = σ fR_p 0 0 ∧ τ' fM_what 0 0 = f + σ fR_p 0 0 ∧ rKeepC σ σ' ∧ rKeep τ τ' ∧
    ((σ' fR_bad 0 0 ≠ -1 ∧ σ' fR_runs = σ fR_runs ∧ τ' fM_runs = τ fM_runs) ∨ (σ' fR_bad 0 0 = -1 ∧ σ fR_p 0 0 < σ' fR_p 0 0 ∧
      (((σ fT_kinds 0 (σ fR_p 0 0) = 1 ∨ σ fT_kinds 0 (σ fR_p 0 0) = 2) ∧ σ' fR_p 0 0 = σ fR_p 0 0 + 1 ∧ σ' fR_runs = σ fR_runs ∧ τ' fM_runs = τ fM_runs) ∨ rOk σ σ' τ τ' f N (σ fR_p 0 0) (τ fM_runs 0 0)))) := by
  obtain ⟨d, rfl⟩ : ∃ e, d = e + 1 := ⟨d - 1, by omega⟩
  have hf := hE.1
  have hN := hE.2.1
  have hR := h.1
  have hB := JR_b hJ
  have ok := h.2.resolve_right (fun z => by omega)
  have k := hE.2.2.2.1 _ ok.2.2.1 ok.2.2.2.1
  have E1 : ENV (ga_up σ fR_whatAt 0 0 (σ fR_p 0 0)) (ga_up τ fM_what 0 0 (τ fM_at 0 0)) f N := ENV_c hE (up_F (by decide) ..) (up_F (by decide) ..)
  have P1 : PR (ga_up σ fR_whatAt 0 0 (σ fR_p 0 0)) (ga_up τ fM_what 0 0 (τ fM_at 0 0)) f N := PR_c h (up_F (by decide) ..) (up_F (by decide) ..) (up_F (by decide) ..) (up_F (by decide) ..) (up_F (by decide) ..)
  rw [e_r_what, e_m_what, s_m_look E1 P1 (by omega), s_r_takes E1 P1 (by omega) 1]
  simp only [Option.bind_some]
  rw [up_F (F' := fR_bad) (by decide), up_F (F' := fR_p) (by decide), up_F (F' := fT_kinds) (by decide), if_pos hb]
  have i4 : cdM (σ fT_kinds 0 (σ fR_p 0 0)) = 4 ↔ σ fT_kinds 0 (σ fR_p 0 0) = 1 := cdM_inj (b := 1) ⟨k.1, k.2.1⟩ (by omega)
  have i5 : cdM (σ fT_kinds 0 (σ fR_p 0 0)) = 5 ↔ σ fT_kinds 0 (σ fR_p 0 0) = 2 := cdM_inj (b := 2) ⟨k.1, k.2.1⟩ (by omega)
  have one : (σ fT_kinds 0 (σ fR_p 0 0) = 1 ∨ σ fT_kinds 0 (σ fR_p 0 0) = 2) → ∃ σ' τ', some ((0 : Int), ga_up (ga_up σ fR_whatAt 0 0 (σ fR_p 0 0)) fR_p 0 0 (σ fR_p 0 0 + 1)) = some (0, σ') ∧ m_what_23 d (ga_up τ fM_what 0 0 (τ fM_at 0 0)) = some (0, τ') ∧ PR σ' τ' f N ∧ fr wtC σ σ' ∧ fr wtM τ τ' ∧ σ' fR_whatAt 0 0 = σ fR_p 0 0 ∧ τ' fM_what 0 0 = f + σ fR_p 0 0 ∧ rKeepC σ σ' ∧ rKeep τ τ' ∧
    ((σ' fR_bad 0 0 ≠ -1 ∧ σ' fR_runs = σ fR_runs ∧ τ' fM_runs = τ fM_runs) ∨ (σ' fR_bad 0 0 = -1 ∧ σ fR_p 0 0 < σ' fR_p 0 0 ∧
      (((σ fT_kinds 0 (σ fR_p 0 0) = 1 ∨ σ fT_kinds 0 (σ fR_p 0 0) = 2) ∧ σ' fR_p 0 0 = σ fR_p 0 0 + 1 ∧ σ' fR_runs = σ fR_runs ∧ τ' fM_runs = τ fM_runs) ∨ rOk σ σ' τ τ' f N (σ fR_p 0 0) (τ fM_runs 0 0)))) := by
    intro hk
    have lt : σ fR_p 0 0 < N := by
      rcases hk with e | e
      · exact ENV_lt hE ok.2.2.2.1 e (by omega) (by omega)
      · exact ENV_lt hE ok.2.2.2.1 e (by omega) (by omega)
    have ps := PR_step P1 (by rw [up_F (by decide)]; exact hb) (n := 1) (by omega) (by rw [up_F (by decide)]; omega)
    rw [up_F (F' := fR_p) (by decide), up_F (F' := fM_at) (by decide)] at ps
    rw [e_m_what_23, up_F (F' := fM_at) (by decide), w32_ok (by omega)]
    refine ⟨_, _, rfl, rfl, ps, fr_trans (fr_u (by decide)) (fr_u (by decide)), fr_trans (fr_u (by decide)) (fr_u (by decide)), ?_, ?_, ?_, ?_, Or.inr ⟨?_, ?_, Or.inl ⟨hk, ?_, ?_, ?_⟩⟩⟩
    · rw [up_F (by decide), up_eq]
    · rw [up_F (by decide), up_eq]; exact ok.2.2.2.2
    · exact rKeepC_eq (by rw [up_F (by decide), up_F (by decide)]) (by rw [up_F (by decide), up_F (by decide)])
    · exact rKeep_eq (by rw [up_F (by decide), up_F (by decide)]) (by rw [up_F (by decide), up_F (by decide)]) (by rw [up_F (by decide), up_F (by decide)])
    · rw [up_F (by decide), up_F (by decide)]; exact hb
    · rw [up_eq]; omega
    · rw [up_eq]
    · rw [up_F (by decide), up_F (by decide)]
    · rw [up_F (by decide), up_F (by decide)]
  by_cases c1 : σ fT_kinds 0 (σ fR_p 0 0) = 1
  · rw [decide_eq_true ⟨hb, c1⟩, if_neg b2i_n, if_pos (show σ fR_bad 0 0 = -1 ∧ σ fT_kinds 0 (σ fR_p 0 0) = 1 from ⟨hb, c1⟩), if_pos (i4.mpr c1)]
    exact one (Or.inl c1)
  · rw [decide_eq_false (fun z => c1 z.2), if_pos b2i_f, if_neg (show ¬ (σ fR_bad 0 0 = -1 ∧ σ fT_kinds 0 (σ fR_p 0 0) = 1) from fun z => c1 z.2), if_neg (fun z => c1 (i4.mp z)), s_r_takes E1 P1 (by omega) 2]
    simp only [Option.bind_some]
    rw [up_F (F' := fR_bad) (by decide), up_F (F' := fR_p) (by decide), up_F (F' := fT_kinds) (by decide)]
    by_cases c2 : σ fT_kinds 0 (σ fR_p 0 0) = 2
    · rw [decide_eq_true ⟨hb, c2⟩, if_neg b2i_n, if_pos (show σ fR_bad 0 0 = -1 ∧ σ fT_kinds 0 (σ fR_p 0 0) = 2 from ⟨hb, c2⟩), if_pos (i5.mpr c2)]
      exact one (Or.inr c2)
    · rw [decide_eq_false (fun z => c2 z.2), if_pos b2i_f, if_neg (show ¬ (σ fR_bad 0 0 = -1 ∧ σ fT_kinds 0 (σ fR_p 0 0) = 2) from fun z => c2 z.2), if_neg (fun z => c2 (i5.mp z))]
      obtain ⟨r, σ', τ', e1, e2, e3, e4, e5, e6⟩ := P_run E1 P1 (d := d) (by omega) (by rw [up_F (by decide)]; exact hB.1) (by rw [up_F (by decide)]; exact hB.2)
      rw [e1, e2]
      refine ⟨σ', τ', rfl, rfl, e3, fr_trans (fr_u (by decide)) (fr_sub e4 (by decide)), fr_trans (fr_u (by decide)) (fr_sub e5 (by decide)), ?_, ?_, ?_, ?_, ?_⟩
      · rw [e4 _ (by decide), up_eq]
      · rw [e5 _ (by decide), up_eq]; exact ok.2.2.2.2
      · rcases e6 with b | ⟨_, b⟩
        · exact rKeepC_eq (b.2.2.2.1.trans (up_F (by decide) ..)) (b.2.2.2.2.1.trans (up_F (by decide) ..))
        · have := rOk_keepC b
          intro i hi
          have q := this i (by rw [up_F (by decide)]; exact hi)
          rw [up_F (by decide), up_F (by decide)] at q
          exact q
      · rcases e6 with b | ⟨_, b⟩
        · exact rKeep_eq (b.2.2.1.trans (up_F (by decide) ..)) (b.2.2.2.2.2.1.trans (up_F (by decide) ..)) (b.2.2.2.2.2.2.trans (up_F (by decide) ..))
        · have := rOk_keep b
          refine ⟨by have := this.1; rw [up_F (by decide)] at this; exact this, fun i hi => ?_⟩
          have q := this.2 i (by rw [up_F (by decide)]; exact hi)
          rw [up_F (by decide), up_F (by decide)] at q
          exact q
      · rcases e6 with b | ⟨_, b⟩
        · exact Or.inl ⟨b.1, b.2.1.trans (up_F (by decide) ..), b.2.2.1.trans (up_F (by decide) ..)⟩
        · right
          unfold rOk at b ⊢
          rw [up_F (F' := fR_p) (by decide), up_F (F' := fT_kinds) (by decide), up_F (F' := fR_runs) (by decide), up_F (F' := fR_runFrom) (by decide), up_F (F' := fR_runTo) (by decide), up_F (F' := fM_runs) (by decide), up_F (F' := fM_runFrom) (by decide), up_F (F' := fM_runSize) (by decide)] at b
          exact ⟨b.1, b.2.2.1, Or.inr ⟨b.1, rfl, b.2.2⟩⟩

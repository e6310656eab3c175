/-! names that are something: who is so -/
def miN (g : Int → Int) (k n : Int) : Int := (rg k n).foldr (fun j x => min (g j) x) 1000000
theorem miN_n {g : Int → Int} {k n : Int} (h : n ≤ k) : miN g k n = 1000000 := by unfold miN; rw [rg_n h]; rfl
theorem miN_s {g : Int → Int} {k n : Int} (h : k < n) : miN g k n = min (g k) (miN g (k + 1) n) := by unfold miN; rw [rg_s h]; rfl
theorem miN_le {g : Int → Int} {n : Int} : ∀ k, miN g k n ≤ 1000000 := by
  refine rg_ind (n := n) (fun k hk => ?_) (fun k hk ih => ?_)
  · rw [miN_n hk]; exact Int.le_refl _
  · rw [miN_s hk]; omega
theorem miN_1 {g : Int → Int} {n : Int} : ∀ k, 1000000 ≤ miN g k n → ∀ j, k ≤ j → j < n → 1000000 ≤ g j := by
  refine rg_ind (n := n) (fun k hk _ j a b => by omega) (fun k hk ih h j a b => ?_)
  rw [miN_s hk] at h
  by_cases z : j = k
  · rw [z]; omega
  · exact ih (by omega) j (by omega) b
section
variable {σ τ : ga_S} {f : Int} {N : Nat}
theorem dS_dN (E : E0 σ τ f N) (nm : List Int) (s : Int) (hs : 0 ≤ s) : dS σ nm = s ↔ dN σ nm s ≠ -1 := by
  unfold dS dN
  by_cases c : fnd σ nm 0 = -1
  · rw [if_pos c, if_pos (Or.inl c)]
    exact ⟨fun z => by omega, fun z => absurd rfl z⟩
  · have f0 := (fnd_r (σ := σ) (nm := nm) (Int.le_refl 0)).resolve_left c
    have lv : live σ (fnd σ nm 0) := ⟨f0.1, f0.2.1, f0.2.2.1⟩
    have a := (E.2.2.1.2.2.2.2.2.2.2 _ lv).2.2.2.1
    rw [if_neg c]
    by_cases z : σ fD_sorts 0 (fnd σ nm 0) = s
    · rw [if_neg (fun v => v.elim c (fun u => u z))]
      exact ⟨fun _ => by omega, fun _ => z⟩
    · rw [if_pos (Or.inr z)]
      exact ⟨fun v => absurd v z, fun v => absurd rfl v⟩
/-- the code of a name that must be an object's -/
def obG (σ : ga_S) (j : Int) : Int := if dN σ (nN σ j) 2 = -1 then cd σ (σ fR_nameFrom 0 j) 2 else 1000000
theorem k_objs0 (E : E0 σ τ f N) {n : Int} (hn25 : n ≤ 2501) (hB : ∀ k, 0 ≤ k → k < n → frB σ N (σ fR_nameFrom 0 k) (σ fR_nameTo 0 k)) {d : Nat} (hd : 3 ≤ d) (v3 : Int) : ∀ k, 0 ≤ k → k ≤ n → ∀ ρ c, KC σ ρ → FT ρ c → (ρ fR_nameFrom = σ fR_nameFrom ∧ ρ fR_nameTo = σ fR_nameTo) → ∃ ρ', r_objectsOrNew_5 d ρ 0 n v3 k = some (0, ρ') ∧ fr ndL ρ ρ' ∧ KC σ ρ' ∧ FT ρ' (min c (miN (obG σ) k n)) := by
  refine rg_ind (n := n) (fun k hk h0 h1 ρ c K F Z => ?_) (fun k hk ih h0 h1 ρ c K F Z => ?_)
  · rw [e_r_objectsOrNew_5, if_neg (by omega), miN_n hk, Int.min_eq_left (FT_le F)]
    exact ⟨ρ, rfl, fr_refl _ _, K, F⟩
  · have B := hB k h0 hk
    have t := frB_t B
    obtain ⟨ρ1, a1, a2, a3⟩ := k_spell E K B (d := d) (by omega)
    have K1 := KC_f K a2 (by decide)
    have F1 := FT_f F a2 (by decide)
    have so := k_sort E K1 a3 (d := d) hd
    have en : nmT σ (σ fR_nameFrom 0 k) (σ fR_nameTo 0 k) = nN σ k := rfl
    rw [en] at so
    have ds := dS_dN E (nN σ k) 2 (by decide)
    obtain ⟨s, es⟩ : ∃ x, x = dS σ (nN σ k) := ⟨_, rfl⟩
    rw [← es] at so ds
    have next : ∀ ρ2 c2, fr ndL ρ ρ2 → KC σ ρ2 → FT ρ2 c2 → ∃ ρ', r_objectsOrNew_108 d ρ2 0 n v3 k = some (0, ρ') ∧ fr ndL ρ ρ' ∧ KC σ ρ' ∧ FT ρ' (min c2 (miN (obG σ) (k + 1) n)) := by
      intro ρ2 c2 f2 K2 F2
      obtain ⟨ρ3, b1, b2, b3, b4⟩ := ih (by omega) (by omega) ρ2 c2 K2 F2 ⟨by rw [f2 _ (by decide)]; exact Z.1, by rw [f2 _ (by decide)]; exact Z.2⟩
      refine ⟨ρ3, ?_, fr_trans f2 b2, b3, b4⟩
      rw [e_r_objectsOrNew_108, w32_ok (by omega), b1]
    have s90 : ∃ ρ', r_objectsOrNew_90 d ρ1 0 n v3 k s = some (0, ρ') ∧ fr ndL ρ ρ' ∧ KC σ ρ' ∧ FT ρ' (min c (miN (obG σ) k n)) := by
      rw [e_r_objectsOrNew_90, miN_s hk, ← Int.min_assoc]
      by_cases z : s = 2
      · have g : obG σ k = 1000000 := by unfold obG; rw [if_neg (ds.mp z)]
        rw [if_pos z, g, Int.min_eq_left (FT_le F)]
        exact next ρ1 c (fr_sub a2 (by decide)) K1 F1
      · have g : obG σ k = cd σ (σ fR_nameFrom 0 k) 2 := by unfold obG; rw [if_pos (Classical.byContradiction fun v => z (ds.mpr v))]
        obtain ⟨ρ2, b1, b2, b3⟩ := k_note E.2.1 E.1.2.2.1 K1 F1 (t := σ fR_nameFrom 0 k) (r := 2) (why := 4) t (by omega) (by decide) (d := d) (by omega)
        rw [if_neg z, ck_ok _ (by omega), a2 fR_nameFrom (by decide), Z.1, b1, g]
        simp only [Option.bind_some]
        exact next ρ2 _ (fr_trans (fr_sub a2 (by decide)) (fr_sub b2 (by decide))) (KC_f K1 b2 (by decide)) b3
    rw [e_r_objectsOrNew_5, if_pos hk, ck_ok _ (by omega), ck_ok _ (by omega), Z.1, Z.2, a1]
    simp only [Option.bind_some]
    rw [so]
    simp only [Option.bind_some]
    by_cases z : s = -1
    · rw [if_pos z, if_pos trivial]; exact s90
    · rw [if_neg z]; exact s90
/-- the same, model -/
theorem m_objs0 (E : E0 σ τ f N) {n : Int} (hn25 : n ≤ 2501) (hL : ∀ k, 0 ≤ k → k < n → RU σ τ f N k (σ fR_nameFrom 0 k) (σ fR_nameTo 0 k)) (hl : τ fM_listSize 0 0 = n) {d : Nat} (hd : 4 ≤ d) (x y z : Int) : ∀ k, 0 ≤ k → k ≤ n → ∀ ρ c, KM τ ρ → GT ρ c → ∃ ρ', m_askFifteen_361 d ρ 0 x y z k = m_askFifteen_361 d ρ' 0 x y z n ∧ fr ntM ρ ρ' ∧ KM τ ρ' ∧ GT ρ' (min c (miN (obG σ) k n)) := by
  refine rg_ind (n := n) (fun k hk h0 h1 ρ c K F => ?_) (fun k hk ih h0 h1 ρ c K F => ?_)
  · have e : k = n := by omega
    rw [e, miN_n (Int.le_refl _), Int.min_eq_left (GT_le F)]
    exact ⟨ρ, rfl, fr_refl _ _, K, F⟩
  · have R := hL k h0 hk
    have t := frB_t R.2.2.2
    have mr := m_meansRun E K R.2.2.2 R.1 R.2.1 R.2.2.1 (d := d) (by omega) 4
    rw [mN_dN (s := 2) (ms := 4) (by omega)] at mr
    have en : nmT σ (σ fR_nameFrom 0 k) (σ fR_nameTo 0 k) = nN σ k := rfl
    rw [en] at mr
    obtain ⟨ρ1, a1, a2, a3, a4⟩ := m_need E K F (t := σ fR_nameFrom 0 k) (t' := f + σ fR_nameFrom 0 k) (r := 2) (why := 4) (g := if dN σ (nN σ k) 2 = -1 then 0 else 1) t rfl (by omega) (by decide) (d := d) (by omega)
    have a4' : GT ρ1 (min c (obG σ k)) := by
      unfold obG
      by_cases q : dN σ (nN σ k) 2 = -1
      · rw [if_pos q, if_pos rfl] at a4; rw [if_pos q]; exact a4
      · rw [if_neg q, if_neg (by decide)] at a4; rw [if_neg q]; exact a4
    obtain ⟨ρ2, b1, b2, b3, b4⟩ := ih (by omega) (by omega) ρ1 _ a3 a4'
    refine ⟨ρ2, ?_, fr_trans a2 b2, b3, by rw [miN_s hk, ← Int.min_assoc]; exact b4⟩
    rw [e_m_askFifteen_361, K fM_listSize (by decide), hl, if_pos hk, Int.zero_add, w32_ok (by omega), mr]
    simp only [Option.bind_some]
    rw [if_app (m_askFifteen_389 d ρ 0 x y z k), e_m_askFifteen_389, Int.zero_add, w32_ok (by omega), ck_ok _ R.1, K fM_runFrom (by decide), R.2.1, a1]
    simp only [Option.bind_some]
    rw [w32_ok (by omega), b1]
/-- the code of an adjective for a name -/
def adG (σ : ga_S) (nt : Bool) (j : Int) : Int := if dN σ (nN σ j) 2 = -1 then 1000000 else cnC σ (σ fR_runFrom 0 0) (aC σ (nR σ 0) (σ fW_kindOf 0 (dN σ (nN σ j) 2)) nt false)
def pnF : List Nat := adL ++ ntL
theorem k_adjs (E : E0 σ τ f N) {n : Int} {nt : Bool} (hn25 : n ≤ 2501) (hB : ∀ k, 0 ≤ k → k < n → frB σ N (σ fR_nameFrom 0 k) (σ fR_nameTo 0 k)) (hR : frB σ N (σ fR_runFrom 0 0) (σ fR_runTo 0 0)) (hnt : σ fR_not 0 0 = b2i nt) (hnm : σ fR_names 0 0 = n) {d : Nat} (hd : 6 ≤ d) : ∀ k, 0 ≤ k → k ≤ n → ∀ ρ c, KC σ ρ → FT ρ c → (ρ fR_nameFrom = σ fR_nameFrom ∧ ρ fR_nameTo = σ fR_nameTo ∧ ρ fR_names = σ fR_names ∧ ρ fR_not = σ fR_not) → ∃ ρ', r_checkPlain_272 d ρ (σ fR_runFrom 0 0) (σ fR_runTo 0 0) k = some (0, ρ') ∧ fr pnF ρ ρ' ∧ KC σ ρ' ∧ FT ρ' (min c (miN (adG σ nt) k n)) := by
  refine rg_ind (n := n) (fun k hk h0 h1 ρ c K F Z => ?_) (fun k hk ih h0 h1 ρ c K F Z => ?_)
  · rw [e_r_checkPlain_272, Z.2.2.1, hnm, if_neg (by omega), miN_n hk, Int.min_eq_left (FT_le F)]
    exact ⟨ρ, rfl, fr_refl _ _, K, F⟩
  · have B := hB k h0 hk
    have tR := frB_t hR
    have wo := e0_o E
    obtain ⟨e, rfl⟩ : ∃ e, d = e + 1 := ⟨d - 1, by omega⟩
    obtain ⟨ρ1, a1, a2, a3, K1⟩ := k_mean E K B (d := e) (by omega) 2
    have en : nmT σ (σ fR_nameFrom 0 k) (σ fR_nameTo 0 k) = nN σ k := rfl
    rw [en] at a1
    have F1 := FT_f F a2 (by decide)
    have rO := e0_dN E (nN σ k) 2
    have m2 : mxN σ 2 = σ fW_objects 0 0 := rfl
    obtain ⟨o, eo⟩ : ∃ x, x = dN σ (nN σ k) 2 := ⟨_, rfl⟩
    rw [← eo] at a1 rO
    have obj : c_r_objectAt (e + 1) ρ k = some (o, ρ1) := by
      rw [e_r_objectAt, ck_ok _ (by omega), ck_ok _ (by omega), Z.1, Z.2.1, a1]; rfl
    have next : ∀ ρ2 c2, fr pnF ρ ρ2 → KC σ ρ2 → FT ρ2 c2 → ∃ ρ', r_checkPlain_321 (e + 1) ρ2 (σ fR_runFrom 0 0) (σ fR_runTo 0 0) k = some (0, ρ') ∧ fr pnF ρ ρ' ∧ KC σ ρ' ∧ FT ρ' (min c2 (miN (adG σ nt) (k + 1) n)) := by
      intro ρ2 c2 f2 K2 F2
      obtain ⟨ρ3, b1, b2, b3, b4⟩ := ih (by omega) (by omega) ρ2 c2 K2 F2 ⟨by rw [f2 _ (by decide)]; exact Z.1, by rw [f2 _ (by decide)]; exact Z.2.1, by rw [f2 _ (by decide)]; exact Z.2.2.1, by rw [f2 _ (by decide)]; exact Z.2.2.2⟩
      refine ⟨ρ3, ?_, fr_trans f2 b2, b3, b4⟩
      rw [e_r_checkPlain_321, w32_ok (by omega), b1]
    rw [e_r_checkPlain_272, Z.2.2.1, hnm, if_pos hk, obj]
    simp only [Option.bind_some]
    rw [miN_s hk, ← Int.min_assoc]
    by_cases z : o = -1
    · have g : adG σ nt k = 1000000 := by unfold adG; rw [← eo, if_pos z]
      rw [if_pos z, g, Int.min_eq_left (FT_le F)]
      exact next ρ1 c (fr_sub a2 (by decide)) K1 F1
    · have ko := wo.2.2.2 o (by omega) (by omega)
      obtain ⟨ρ2, b1, b2, b3, _⟩ := k_adjective E K1 hR (kind := σ fW_kindOf 0 o) ⟨ko.1, ko.2.1⟩ nt false (d := e + 1) (by omega)
      obtain ⟨ρ3, c1, c2, c3, c4⟩ := k_needDescription E b3 (FT_f F1 b2 (by decide)) tR (aC σ (nR σ 0) (σ fW_kindOf 0 o) nt false) (d := e + 1) (by omega)
      have b1' : c_r_adjective (e + 1) ρ1 (σ fR_runFrom 0 0) (σ fR_runTo 0 0) (σ fW_kindOf 0 o) (b2i nt) 0 = some (aC σ (nR σ 0) (σ fW_kindOf 0 o) nt false, ρ2) := b1
      have g : adG σ nt k = cnC σ (σ fR_runFrom 0 0) (aC σ (nR σ 0) (σ fW_kindOf 0 o) nt false) := by unfold adG; rw [← eo, if_neg z]
      have wo2 := wo.2.1
      rw [if_neg z, ck_ok _ (by omega), K1.1 fW_kindOf (by decide), a2 fR_not (by decide), Z.2.2.2, hnt, b1']
      simp only [Option.bind_some]
      rw [c1, g]
      simp only [Option.bind_some]
      exact next ρ3 _ (fr_trans (fr_sub a2 (by decide)) (fr_trans (fr_sub b2 (by decide)) (fr_sub c2 (by decide)))) c3 c4
theorem m_adjs (E : E0 σ τ f N) {n r : Int} {nt : Bool} (hn25 : n ≤ 2501) (hL : ∀ k, 0 ≤ k → k < n → RU σ τ f N k (σ fR_nameFrom 0 k) (σ fR_nameTo 0 k)) (hl : τ fM_listSize 0 0 = n) (hw : τ fM_what 0 0 = r) (R : RU σ τ f N r (σ fR_runFrom 0 0) (σ fR_runTo 0 0)) (hnt : τ fM_isNot 0 0 = b2i nt) {d : Nat} (hd : 5 ≤ d) : ∀ k, 0 ≤ k → k ≤ n → ∀ ρ c, KM τ ρ → GT ρ c → ∃ ρ', m_askFifteen_432 d ρ 0 (f + σ fR_runFrom 0 0) 1 k = some (0, ρ') ∧ fr (adM ++ ntM) ρ ρ' ∧ KM τ ρ' ∧ GT ρ' (min c (miN (adG σ nt) k n)) := by
  refine rg_ind (n := n) (fun k hk h0 h1 ρ c K F => ?_) (fun k hk ih h0 h1 ρ c K F => ?_)
  · rw [e_m_askFifteen_432, K fM_listSize (by decide), hl, if_neg (by omega), miN_n hk, Int.min_eq_left (GT_le F)]
    exact ⟨ρ, rfl, fr_refl _ _, K, F⟩
  · have Rk := hL k h0 hk
    have tR := frB_t R.2.2.2
    have wo := e0_o E
    have mr := m_meansRun E K Rk.2.2.2 Rk.1 Rk.2.1 Rk.2.2.1 (d := d) (by omega) 4
    rw [mN_dN (s := 2) (ms := 4) (by omega)] at mr
    have en : nmT σ (σ fR_nameFrom 0 k) (σ fR_nameTo 0 k) = nN σ k := rfl
    rw [en] at mr
    have rO := e0_dN E (nN σ k) 2
    have m2 : mxN σ 2 = σ fW_objects 0 0 := rfl
    obtain ⟨o, eo⟩ : ∃ x, x = dN σ (nN σ k) 2 := ⟨_, rfl⟩
    rw [← eo] at mr rO
    have next : ∀ ρ2 c2, fr (adM ++ ntM) ρ ρ2 → KM τ ρ2 → GT ρ2 c2 → ∃ ρ', m_askFifteen_533 d ρ2 0 (f + σ fR_runFrom 0 0) 1 k = some (0, ρ') ∧ fr (adM ++ ntM) ρ ρ' ∧ KM τ ρ' ∧ GT ρ' (min c2 (miN (adG σ nt) (k + 1) n)) := by
      intro ρ2 c2 f2 K2 F2
      obtain ⟨ρ3, b1, b2, b3, b4⟩ := ih (by omega) (by omega) ρ2 c2 K2 F2
      refine ⟨ρ3, ?_, fr_trans f2 b2, b3, b4⟩
      rw [e_m_askFifteen_533, w32_ok (by omega), b1]
    rw [e_m_askFifteen_432, K fM_listSize (by decide), hl, if_pos hk, if_neg (by decide), Int.zero_add, w32_ok (by omega), mr]
    simp only [Option.bind_some]
    rw [miN_s hk, ← Int.min_assoc]
    by_cases z : o = -1
    · have g : adG σ nt k = 1000000 := by unfold adG; rw [← eo, if_pos z]
      rw [if_pos z, g, Int.min_eq_left (GT_le F)]
      exact next ρ c (fr_refl _ _) K F
    · have ko := wo.2.2.2 o (by omega) (by omega)
      obtain ⟨ρ2, b1, b2, b3, _⟩ := m_adjective E K R.2.2.2 R.2.1 R.2.2.1 (kind := σ fW_kindOf 0 o) ⟨ko.1, ko.2.1⟩ false (!nt) (d := d) (by omega)
      rw [Bool.not_not] at b1
      obtain ⟨l, el⟩ : ∃ x : Int, x = ((aL σ (nmT σ (σ fR_runFrom 0 0) (σ fR_runTo 0 0)) (σ fW_kindOf 0 o) nt false).length : Int) := ⟨_, rfl⟩
      rw [← el, R.2.1, R.2.2.1] at b1
      obtain ⟨ρ3, ρ4, y1, y2, y3, y4, y5, y6⟩ := m_two E b3 (GT_f F b2 (by decide)) (a := σ fR_runFrom 0 0) (t := f + σ fR_runFrom 0 0) (n := l) tR rfl (by omega) (d := d) (by omega)
      have g : adG σ nt k = cnC σ (σ fR_runFrom 0 0) l := by
        unfold adG
        rw [← eo, if_neg z, el]
        exact cnC_eq (aC_L E (nR σ 0) (σ fW_kindOf 0 o) nt false).1
      have wo2 := wo.2.1
      obtain ⟨ρ5, w1, w2, w3, w4⟩ := next ρ4 _ (fr_trans (fr_sub b2 (by decide)) (fr_sub y3 (by decide))) y4 y5
      have s527 : m_askFifteen_527 d ρ3 0 (f + σ fR_runFrom 0 0) 1 k (if l < 2 then 1 else 0) = some (0, ρ5) := by
        rw [e_m_askFifteen_527, y2]
        simp only [Option.bind_some]
        exact w1
      have s510 : m_askFifteen_510 d ρ2 0 (f + σ fR_runFrom 0 0) 1 k l (if 0 < l then 1 else 0) = some (0, ρ5) := by
        rw [e_m_askFifteen_510, y1]
        simp only [Option.bind_some]
        rw [if_app (m_askFifteen_527 d ρ3 0 (f + σ fR_runFrom 0 0) 1 k), s527]
      have s494 : m_askFifteen_494 d ρ 0 (f + σ fR_runFrom 0 0) 1 k (b2i (!nt)) 0 (σ fW_kindOf 0 o) (σ fR_runTo 0 0 - σ fR_runFrom 0 0) (f + σ fR_runFrom 0 0) = some (0, ρ5) := by
        have b1' : c_m_adjective d ρ (f + σ fR_runFrom 0 0) (σ fR_runTo 0 0 - σ fR_runFrom 0 0) (σ fW_kindOf 0 o) 0 (b2i (!nt)) = some (l, ρ2) := b1
        rw [e_m_askFifteen_494, b1']
        simp only [Option.bind_some]
        rw [if_app (m_askFifteen_510 d ρ2 0 (f + σ fR_runFrom 0 0) 1 k l), s510]
      rw [if_neg z, K fM_what (by decide), hw, ck_ok _ R.1, ck_ok _ (by omega), K fM_isNot (by decide), hnt, K fM_kindOf (by decide), ko.2.2, K fM_runSize (by decide), R.2.2.1, g]
      refine ⟨ρ5, ?_, w2, w3, w4⟩
      cases nt with
      | false => rw [if_pos b2i_f]; exact s494
      | true => rw [if_neg b2i_n]; exact s494
end

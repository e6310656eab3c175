/-! whom a rule is for -/
/-- the other rules stay -/
def qkp (n0 : Int) (σ σ' : ga_S) : Prop := ∀ F, F ∈ quL → ∀ n, n ≠ n0 → σ' F n = σ F n
theorem qkp_t {s : Int} {σ σ1 σ2 : ga_S} (a : qkp s σ σ1) (b : qkp s σ1 σ2) : qkp s σ σ2 := fun F h n hn => (b F h n hn).trans (a F h n hn)
theorem qkp_r (s : Int) (σ : ga_S) : qkp s σ σ := fun _ _ _ _ => rfl
theorem qkp_f {s : Int} {σ σ' : ga_S} {L : List Nat} (h : fr L σ σ') (hL : quL.all (fun F => !(L.contains F)) = true) : qkp s σ σ' := fun F hF n _ => by rw [fr_no h hL hF]
theorem qkp_u (s : Int) (σ : ga_S) (F : Nat) (i v : Int) : qkp s σ (ga_up σ F s i v) := fun F' _ n hn => by
  by_cases c : F' = F
  · rw [c, up_n hn]
  · rw [up_F c]
theorem KC_q {σ0 σ σ' : ga_S} {L : List Nat} (K : KC σ0 σ) (h : fr L σ σ') (hL : ∀ F, F ∈ L → F ∈ ckC ∧ F ∉ tk1 ∧ F ∉ stL) (hk : qkp (σ0 fR_draft 0 0) σ σ') : KC σ0 σ' := ⟨fr_trans K.1 (fr_sub h (fun F hF => (hL F hF).1)), fun F hF => by rw [h F (fun z => (hL F z).2.1 hF)]; exact K.2.1 F hF, fun F hF n hn => by rw [h F (fun z => (hL F z).2.2 hF)]; exact K.2.2.1 F hF n hn, fun F hF n hn => (hk F hF n hn).trans (K.2.2.2 F hF n hn)⟩
theorem s_cpy_ru {d : Nat} (hd : 1 ≤ d) (σ : ga_S) {p : Int} (hp : 0 ≤ p ∧ p + 6 ≤ 144) : p_cpy_150_166 d σ 0 p 6 = some (0, am_copy σ fM_readAdjective 0 0 fM_ruleAdjective 0 p 6) := by
  obtain ⟨d, rfl⟩ : ∃ e, d = e + 1 := ⟨d - 1, by omega⟩
  show (if (0 : Int) ≤ 0 ∧ 0 ≤ p ∧ (0 : Int) ≤ 6 ∧ (0 : Int) + 6 ≤ 6 ∧ p + 6 ≤ 144 then some ((0 : Int), am_copy σ fM_readAdjective 0 0 fM_ruleAdjective 0 p 6) else none) = _
  rw [if_pos (by omega)]
section
variable {σ0 τ0 : ga_S} {f : Int} {N : Nat}
theorem rdF_l (σ0 : ga_S) (kind : Int) (df : Bool) : ∀ (k : Nat) (a b : Int) (L : List Int), L ∈ rdF σ0 kind df k a b → L.length ≤ k := by
  intro k
  induction k with
  | zero =>
    intro a b L h
    unfold rdF at h
    by_cases c : a = b
    · rw [if_pos c] at h
      rw [List.mem_singleton.mp h]; exact Nat.le_refl _
    · rw [if_neg c] at h; cases h
  | succ k ih =>
    intro a b L h
    unfold rdF at h
    by_cases c : a = b
    · rw [if_pos c] at h
      rw [List.mem_singleton.mp h]; exact Nat.zero_le _
    · rw [if_neg c] at h
      obtain ⟨m, _, hm⟩ := List.mem_flatMap.mp h
      by_cases c2 : a + m ≤ b
      · rw [if_pos c2] at hm
        obtain ⟨x, _, hx⟩ := List.mem_flatMap.mp hm
        obtain ⟨L', hL', e⟩ := List.mem_map.mp hx
        rw [← e, List.length_cons]
        have := ih _ _ L' hL'
        omega
      · rw [if_neg c2] at hm; cases hm
theorem dsA_k (E : E0 σ0 τ0 f N) {pl df : Bool} {al a b : Int} {P : Int × List Int} (h : P ∈ dsA σ0 pl df al a b) : (0 ≤ P.1 ∧ P.1 < σ0 fW_kinds 0 0) ∧ (al = -1 ∨ isB (σ0 fW_parents 0) P.1 al = true) ∧ P.2.length ≤ 5 := by
  unfold dsA at h
  by_cases c : 6 < b - a
  · rw [if_pos c] at h; cases h
  · rw [if_neg c] at h
    obtain ⟨m, _, hm⟩ := List.mem_flatMap.mp h
    unfold dsM at hm
    by_cases c2 : a + m ≤ b ∧ okK σ0 (dkN σ0 (nmT σ0 (b - m) b) pl) al = true
    · rw [if_pos c2] at hm
      obtain ⟨L, hL, e⟩ := List.mem_map.mp hm
      have o := c2.2
      unfold okK at o
      simp only [Bool.and_eq_true, decide_eq_true_eq, Bool.or_eq_true] at o
      have r := dkN_r E (nmT σ0 (b - m) b) pl
      rw [← e]
      exact ⟨r.resolve_left o.1, o.2, rdF_l _ _ _ _ _ _ L hL⟩
    · rw [if_neg c2] at hm; cases hm
/-- an object that fits, or none -/
def whO (σ0 : ga_S) (kind x y : Int) : Int := if dN σ0 (nmT σ0 x y) 2 ≠ -1 ∧ isB (σ0 fW_parents 0) (σ0 fW_kindOf 0 (dN σ0 (nmT σ0 x y) 2)) kind = true then dN σ0 (nmT σ0 x y) 2 else -1
def whD (σ0 : ga_S) (kind x y : Int) : List (Int × List Int) := dsA σ0 false true kind x y
def whN (σ0 : ga_S) (kind x y : Int) : Int := (if whO σ0 kind x y = -1 then 0 else 1) + ((whD σ0 kind x y).length : Int)
/-- the head of a rule, component -/
def whQ (σ0 : ga_S) (kind x y : Int) (σ : ga_S) (dr : Int) : Prop := (whO σ0 kind x y ≠ -1 ∧ σ fQ_object dr 0 = whO σ0 kind x y ∧ σ fR_nounKind 0 0 = σ0 fW_kindOf 0 (whO σ0 kind x y)) ∨
  (whO σ0 kind x y = -1 ∧ ∃ P, whD σ0 kind x y = [P] ∧ σ fQ_kind dr 0 = P.1 ∧ σ fQ_adjectives dr 0 = (P.2.length : Int) ∧ (∀ i : Nat, i < P.2.length → rdR (σ fQ_which dr i) (σ fQ_values dr i) (P.2.getD i 0)) ∧ σ fR_nounKind 0 0 = P.1)
def whF : List Nat := [fQ_object, fQ_kind, fQ_adjectives, fQ_which, fQ_values, fR_nounKind, fR_fault, fR_where, fR_rank] ++ dsF
theorem whO_r (E : E0 σ0 τ0 f N) (kind x y : Int) : whO σ0 kind x y = -1 ∨ (0 ≤ whO σ0 kind x y ∧ whO σ0 kind x y < σ0 fW_objects 0 0 ∧ whO σ0 kind x y < 24 ∧ isB (σ0 fW_parents 0) (σ0 fW_kindOf 0 (whO σ0 kind x y)) kind = true) := by
  have r := e0_dN E (nmT σ0 x y) 2
  have m2 : mxN σ0 2 = σ0 fW_objects 0 0 := rfl
  have wo := (e0_o E).2.1
  unfold whO
  by_cases c : dN σ0 (nmT σ0 x y) 2 ≠ -1 ∧ isB (σ0 fW_parents 0) (σ0 fW_kindOf 0 (dN σ0 (nmT σ0 x y) 2)) kind = true
  · rw [if_pos c]
    have := c.1
    exact Or.inr ⟨by omega, by omega, by omega, c.2⟩
  · rw [if_neg c]; exact Or.inl rfl
theorem k_whom_l {d : Nat} {dr : Int} (hd0 : 0 ≤ dr) : ∀ (m : Nat) (i : Int) (σ : ga_S), 0 ≤ i → σ fR_rule 0 0 = dr → σ fR_described 0 0 = i + m → i + m ≤ 8 → ∃ σ', r_whom_164 d σ i = some (0, ga_up σ' fR_nounKind 0 0 (σ fR_describedKind 0 0)) ∧ fr [fQ_which, fQ_values] σ σ' ∧ qkp dr σ σ' ∧ (∀ k, k < i → σ' fQ_which dr k = σ fQ_which dr k ∧ σ' fQ_values dr k = σ fQ_values dr k) ∧ (∀ k, i ≤ k → k < i + m → σ' fQ_which dr k = σ fR_describedWhich 0 k ∧ σ' fQ_values dr k = σ fR_describedValue 0 k) := by
  intro m
  induction m with
  | zero =>
    intro i σ h0 hr hd h8
    rw [e_r_whom_164, hd, if_neg (by omega)]
    exact ⟨σ, rfl, fr_refl _ _, qkp_r _ _, fun _ _ => ⟨rfl, rfl⟩, fun k a b => by omega⟩
  | succ m ih =>
    intro i σ h0 hr hd h8
    push_cast at hd h8
    obtain ⟨σ1, e1⟩ : ∃ x, x = ga_up (ga_up σ fQ_which dr i (σ fR_describedWhich 0 i)) fQ_values dr i (σ fR_describedValue 0 i) := ⟨_, rfl⟩
    have f1 : fr [fQ_which, fQ_values] σ σ1 := by rw [e1]; exact fr_trans (fr_u (by decide)) (fr_u (by decide))
    have q1 : qkp dr σ σ1 := by rw [e1]; exact qkp_t (qkp_u _ _ _ _ _) (qkp_u _ _ _ _ _)
    obtain ⟨σ', g1, g2, g3, g4, g5⟩ := ih (i + 1) σ1 (by omega) (by rw [f1 _ (by decide)]; exact hr) (by rw [f1 _ (by decide), hd]; omega) (by omega)
    rw [f1 fR_describedKind (by decide)] at g1
    have w1 : ∀ k, k ≠ i → σ1 fQ_which dr k = σ fQ_which dr k ∧ σ1 fQ_values dr k = σ fQ_values dr k := fun k hk => by
      rw [e1]
      exact ⟨by rw [up_F (by decide), up_i hk], by rw [up_i hk, up_F (by decide)]⟩
    have w2 : σ1 fQ_which dr i = σ fR_describedWhich 0 i ∧ σ1 fQ_values dr i = σ fR_describedValue 0 i := by
      rw [e1]
      exact ⟨by rw [up_F (by decide), up_eq], by rw [up_eq]⟩
    refine ⟨σ', ?_, fr_trans f1 g2, qkp_t q1 g3, fun k hk => ?_, fun k a b => ?_⟩
    · rw [e_r_whom_164, hd, if_pos (by omega), hr, nn_ok _ hd0, ck_ok _ (by omega), nn_ok _ hd0, ck_ok _ (by omega), nn_ok _ hd0, ck_ok _ (by omega), nn_ok _ hd0, ck_ok _ (by omega), ← e1, w32_ok (by omega), g1]
    · have a := g4 k (by omega)
      have b := w1 k (by omega)
      exact ⟨a.1.trans b.1, a.2.trans b.2⟩
    · by_cases ki : k = i
      · have a := g4 k (by omega)
        rw [ki] at a ⊢
        exact ⟨a.1.trans w2.1, a.2.trans w2.2⟩
      · have a := g5 k (by omega) (by push_cast at b; omega)
        rw [f1 fR_describedWhich (by decide), f1 fR_describedValue (by decide)] at a
        exact a
theorem k_whom {σ : ga_S} (E : E0 σ0 τ0 f N) (K : KC σ0 σ) {c : Int} (hF : FT σ c) {ac x y : Int} (hac : 0 ≤ ac ∧ ac < σ0 fW_actions 0 0) (hk : 0 ≤ σ0 fW_actionKinds 0 ac) (hB : frB σ0 N x y) (e1 : σ fR_runFrom 0 1 = x) (e2 : σ fR_runTo 0 1 = y) (hd0 : 0 ≤ σ0 fR_draft 0 0) (hr : σ fR_rule 0 0 = σ0 fR_draft 0 0) {d : Nat} (hd : 13 ≤ d) : ∃ σ', c_r_whom d σ ac = some (0, σ') ∧ KC σ0 σ' ∧ fr whF σ σ' ∧ FT σ' (min c (cnC σ0 x (whN σ0 (σ0 fW_actionKinds 0 ac) x y))) ∧ (whN σ0 (σ0 fW_actionKinds 0 ac) x y = 1 → whQ σ0 (σ0 fW_actionKinds 0 ac) x y σ' (σ0 fR_draft 0 0) ∧ (whO σ0 (σ0 fW_actionKinds 0 ac) x y ≠ -1 → fr (fQ_object :: fR_nounKind :: dsF) σ σ') ∧ (whO σ0 (σ0 fW_actionKinds 0 ac) x y = -1 → σ' fQ_object = σ fQ_object)) ∧ (whN σ0 (σ0 fW_actionKinds 0 ac) x y ≠ 1 → fr (ntL ++ dsF) σ σ') := by
  obtain ⟨d, rfl⟩ : ∃ e, d = e + 1 := ⟨d - 1, by omega⟩
  have wc := e0_c E
  have wc2 := wc.2.1
  have le := FT_le hF
  obtain ⟨kind, ek⟩ : ∃ k, k = σ0 fW_actionKinds 0 ac := ⟨_, rfl⟩
  obtain ⟨dr, edr⟩ : ∃ k, k = σ0 fR_draft 0 0 := ⟨_, rfl⟩
  rw [← ek] at hk ⊢
  rw [← edr] at hr hd0 ⊢
  have tx := frB_t hB
  have orr := whO_r E kind x y
  -- the object
  obtain ⟨σ1, a1, a2, _, a4⟩ := k_mean E K hB (d := d) (by omega) 2
  have r2 := e0_dN E (nmT σ0 x y) 2
  have m2 : mxN σ0 2 = σ0 fW_objects 0 0 := rfl
  have wo := (e0_o E).2.1
  obtain ⟨fi, efi⟩ : ∃ b : Bool, b = decide (whO σ0 kind x y ≠ -1) := ⟨_, rfl⟩
  have st : c_r_whom (d + 1) σ ac = r_whom_62 d σ1 kind (dN σ0 (nmT σ0 x y) 2) (b2i fi) (b2i fi) := by
    have s50 : r_whom_50 d σ1 kind (dN σ0 (nmT σ0 x y) 2) (b2i fi) = r_whom_62 d σ1 kind (dN σ0 (nmT σ0 x y) 2) (b2i fi) (b2i fi) := by
      rw [e_r_whom_50]
      cases fi with
      | true => rw [if_neg b2i_n]; rfl
      | false => rw [if_pos b2i_f]; rfl
    rw [e_r_whom, ck_ok _ (by omega), e1, e2, a1, K.1 fW_actionKinds (by decide), ← ek]
    simp only [Option.bind_some]
    by_cases z : dN σ0 (nmT σ0 x y) 2 = -1
    · have : fi = false := by rw [efi]; unfold whO; rw [if_neg (fun w => w.1 z)]; decide
      rw [this] at s50 ⊢
      rw [if_pos z, e_r_whom_49]
      exact s50
    · rw [if_neg z, k_isKind E a4 (by omega) _ (by omega)]
      simp only [Option.bind_some]
      cases q : isB (σ0 fW_parents 0) (σ0 fW_kindOf 0 (dN σ0 (nmT σ0 x y) 2)) kind with
      | false =>
        have : fi = false := by rw [efi]; unfold whO; rw [if_neg (fun w => by have := w.2; rw [q] at this; cases this)]; decide
        rw [this] at s50 ⊢
        rw [if_pos b2i_f, e_r_whom_49]
        exact s50
      | true =>
        have : fi = true := by rw [efi]; unfold whO; rw [if_pos ⟨z, q⟩]; exact decide_eq_true z
        rw [this] at s50 ⊢
        rw [if_neg b2i_n]
        exact s50
  -- the description
  obtain ⟨T, σ2, b1, b2, bT⟩ := k_description E hB false true (al := kind) (Or.inr hk) a4 (d := d) (by omega)
  obtain ⟨b2, b3, b4, b5⟩ := b2
  rw [List.length_reverse] at b4
  have eDs : dsA σ0 false true kind x y = whD σ0 kind x y := rfl
  rw [eDs] at b4 b5
  have f2 : fr dsF σ σ2 := fr_trans (fr_sub a2 (by decide)) b2
  have F2 := FT_f hF f2 (by decide)
  have r1f : σ1 fR_runFrom 0 1 = x := by rw [a2 _ (by decide)]; exact e1
  have r1t : σ1 fR_runTo 0 1 = y := by rw [a2 _ (by decide)]; exact e2
  have r2f : σ2 fR_runFrom 0 1 = x := by rw [f2 _ (by decide)]; exact e1
  have rl2 : σ2 fR_rule 0 0 = dr := by rw [f2 _ (by decide)]; exact hr
  have fib : (if whO σ0 kind x y = -1 then (0 : Int) else 1) = b2i fi := by
    rw [efi]
    by_cases z : whO σ0 kind x y = -1
    · rw [if_pos z, decide_eq_false (fun w => w z)]; rfl
    · rw [if_neg z, decide_eq_true z]; rfl
  have eN : whN σ0 kind x y = b2i fi + ((whD σ0 kind x y).length : Int) := by unfold whN; rw [fib]
  have fr01 : 0 ≤ b2i fi ∧ b2i fi ≤ 1 := by cases fi <;> decide
  have T0 := b4.1
  have q3 : eq3 (b2i fi + T) ((if fi = true then 1 else 0) + (whD σ0 kind x y).length) := by
    obtain ⟨h0, h1, h2⟩ := b4
    cases fi with
    | true =>
      have : b2i true = 1 := rfl
      rw [this, if_pos rfl]
      exact ⟨by omega, by omega, by omega⟩
    | false =>
      rw [b2i_f, if_neg (by decide)]
      exact ⟨by omega, by omega, by omega⟩
  have eN' : whN σ0 kind x y = (((if fi = true then 1 else 0) + (whD σ0 kind x y).length : Nat) : Int) := by
    rw [eN]
    cases fi with
    | true => rw [if_pos rfl]; push_cast; rfl
    | false => rw [if_neg (by decide), b2i_f]; push_cast; rfl
  have cq : cnC σ0 x (b2i fi + T) = cnC σ0 x (whN σ0 kind x y) := by rw [eN']; exact cnC_eq q3
  have one : b2i fi + T = 1 ↔ whN σ0 kind x y = 1 := by
    rw [eN']
    have := q3.2.2
    omega
  have b1' : c_r_description d σ1 x y 0 1 kind = some (T, σ2) := b1
  rw [st, e_r_whom_62, r1f, r1t, b1']
  simp only [Option.bind_some]
  rw [w32_ok (by omega)]
  by_cases o : b2i fi + T = 1
  · have n1 := one.mp o
    have c1 : cnC σ0 x (whN σ0 kind x y) = 1000000 := by rw [n1]; unfold cnC; rw [if_pos rfl]
    rw [if_pos o, c1, Int.min_eq_left le]
    cases hfi : fi with
    | true =>
      rw [hfi] at efi
      have wn : whO σ0 kind x y ≠ -1 := of_decide_eq_true efi.symm
      have ed : dN σ0 (nmT σ0 x y) 2 = whO σ0 kind x y := by
        unfold whO at wn ⊢
        by_cases z : dN σ0 (nmT σ0 x y) 2 ≠ -1 ∧ isB (σ0 fW_parents 0) (σ0 fW_kindOf 0 (dN σ0 (nmT σ0 x y) 2)) kind = true
        · rw [if_pos z]
        · rw [if_neg z] at wn; exact absurd rfl wn
      obtain ⟨σ3, e3⟩ : ∃ z, z = ga_up (ga_up σ2 fQ_object dr 0 (whO σ0 kind x y)) fR_nounKind 0 0 (σ0 fW_kindOf 0 (whO σ0 kind x y)) := ⟨_, rfl⟩
      have f3 : fr [fQ_object, fR_nounKind] σ2 σ3 := by rw [e3]; exact fr_trans (fr_u (by decide)) (fr_u (by decide))
      have k3 : qkp dr σ2 σ3 := by rw [e3]; exact qkp_t (qkp_u _ _ _ _ _) (qkp_f (L := [fR_nounKind]) (fr_u (by decide)) (by decide))
      rw [if_neg b2i_n, rl2, nn_ok _ hd0, ed, ck_ok _ (by omega), b3.1 fW_kindOf (by decide), ← e3]
      refine ⟨σ3, rfl, KC_q b3 f3 (by decide) (by rw [← edr]; exact k3), fr_trans (fr_sub f2 (by decide)) (fr_sub f3 (by decide)), FT_f F2 f3 (by decide), fun _ => ⟨Or.inl ⟨wn, ?_, ?_⟩, fun _ => fr_trans (fr_sub f2 (by decide)) (fr_sub f3 (by decide)), fun z => absurd z wn⟩, fun z => absurd n1 z⟩
      · rw [e3, up_F (by decide), up_eq]
      · rw [e3, up_eq]
    | false =>
      rw [hfi] at efi
      have wn : whO σ0 kind x y = -1 := Classical.byContradiction fun z => by
        rw [decide_eq_true z] at efi; cases efi
      have l1 : (whD σ0 kind x y).length = 1 := by
        rw [hfi, if_neg (by decide)] at eN'
        omega
      obtain ⟨P, hP⟩ := List.length_eq_one_iff.mp l1
      obtain ⟨u1, u2, u3⟩ := b5 P (by rw [hP]; rfl)
      have pk := dsA_k E (P := P) (show P ∈ dsA σ0 false true kind x y by rw [eDs, hP]; exact List.mem_singleton.mpr rfl)
      obtain ⟨σ3, e3⟩ : ∃ z, z = ga_up (ga_up σ2 fQ_kind dr 0 (σ2 fR_describedKind 0 0)) fQ_adjectives dr 0 (σ2 fR_described 0 0) := ⟨_, rfl⟩
      have f3 : fr [fQ_kind, fQ_adjectives] σ2 σ3 := by rw [e3]; exact fr_trans (fr_u (by decide)) (fr_u (by decide))
      have k3 : qkp dr σ2 σ3 := by rw [e3]; exact qkp_t (qkp_u _ _ _ _ _) (qkp_u _ _ _ _ _)
      obtain ⟨σ4, g1, g2, g3, _, g5⟩ := k_whom_l (d := d) hd0 P.2.length 0 σ3 (Int.le_refl _) (by rw [f3 _ (by decide)]; exact rl2) (by rw [f3 _ (by decide), u2]; omega) (by have := pk.2.2; omega)
      rw [f3 fR_describedKind (by decide)] at g1
      obtain ⟨σ5, e5⟩ : ∃ z, z = ga_up σ4 fR_nounKind 0 0 (σ2 fR_describedKind 0 0) := ⟨_, rfl⟩
      have f5 : fr [fR_nounKind] σ4 σ5 := by rw [e5]; exact fr_u (by decide)
      have f25 : fr [fQ_kind, fQ_adjectives, fQ_which, fQ_values, fR_nounKind] σ2 σ5 := fr_trans (fr_sub f3 (by decide)) (fr_trans (fr_sub g2 (by decide)) (fr_sub f5 (by decide)))
      have k25 : qkp dr σ2 σ5 := qkp_t k3 (qkp_t g3 (qkp_f f5 (by decide)))
      rw [if_pos b2i_f, rl2, nn_ok _ hd0, nn_ok _ hd0, ← e3, g1, ← e5]
      refine ⟨σ5, rfl, KC_q b3 f25 (by decide) (by rw [← edr]; exact k25), fr_trans (fr_sub f2 (by decide)) (fr_sub f25 (by decide)), FT_f F2 f25 (by decide), fun _ => ⟨Or.inr ⟨wn, P, hP, ?_, ?_, fun i hi => ?_, ?_⟩, fun z => absurd wn z, fun _ => ?_⟩, fun z => absurd n1 z⟩
      · rw [f5 _ (by decide), g2 _ (by decide), e3, up_F (by decide), up_eq]; exact u1
      · rw [f5 _ (by decide), g2 _ (by decide), e3, up_eq]; exact u2
      · have a := g5 i (by omega) (by omega)
        rw [f3 fR_describedWhich (by decide), f3 fR_describedValue (by decide)] at a
        rw [f5 fQ_which (by decide), f5 fQ_values (by decide), a.1, a.2]
        exact u3 i hi
      · rw [e5, up_eq]; exact u1
      · rw [f25 _ (by decide), f2 _ (by decide)]
  · have nn1 : whN σ0 kind x y ≠ 1 := fun z => o (one.mpr z)
    rw [if_neg o]
    have fin : ∀ r why, r = 2 ∨ r = 3 → why = fOf r → cnC σ0 x (whN σ0 kind x y) = cd σ0 x r → ∃ σ', r_whom_102 d σ2 why = some (0, σ') ∧ KC σ0 σ' ∧ fr whF σ σ' ∧ FT σ' (min c (cnC σ0 x (whN σ0 kind x y))) ∧ (whN σ0 kind x y = 1 → whQ σ0 kind x y σ' dr ∧ (whO σ0 kind x y ≠ -1 → fr (fQ_object :: fR_nounKind :: dsF) σ σ') ∧ (whO σ0 kind x y = -1 → σ' fQ_object = σ fQ_object)) ∧ (whN σ0 kind x y ≠ 1 → fr (ntL ++ dsF) σ σ') := by
      intro r why hr2 hw hc
      obtain ⟨σ3, g1, g2, g3⟩ := k_note E.2.1 E.1.2.2.1 b3 F2 (t := x) (r := r) (why := why) tx (by omega) hw (d := d) (by omega)
      rw [e_r_whom_102, r2f, g1, hc]
      exact ⟨σ3, rfl, KC_f b3 g2 (by decide), fr_trans (fr_sub f2 (by decide)) (fr_sub g2 (by decide)), g3, fun z => absurd z nn1, fun _ => fr_trans (fr_sub f2 (by decide)) (fr_sub g2 (by decide))⟩
    by_cases z : b2i fi + T = 0
    · rw [if_pos z]
      refine fin 2 4 (Or.inl rfl) (by decide) ?_
      rw [← cq, z]
      unfold cnC
      rw [if_neg (by decide), if_pos rfl]
    · rw [if_neg z]
      refine fin 3 7 (Or.inr rfl) (by decide) ?_
      rw [← cq]
      unfold cnC
      rw [if_neg o, if_neg z]
end

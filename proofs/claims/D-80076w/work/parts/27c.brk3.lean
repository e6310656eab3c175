/-! what stands in brackets, model: what its words mean -/
theorem sM_4 (s x : Int) : sM s x = 4 ↔ s = 2 := by
  unfold sM
  repeat' split
  all_goals omega
theorem sM_7 (s x : Int) : sM s x = 7 ↔ s = 5 := by
  unfold sM
  repeat' split
  all_goals omega
theorem iM_n {s x : Int} (h : s ≠ 11) : iM s x = x := by
  unfold iM
  rw [if_neg (fun z => h z.1)]
/-- a key as the model has it -/
def mK (k : Int) : Int := if k = 0 then 3 else 91 + k
theorem mK_3 {k : Int} (h : 0 ≤ k) : mK k = 3 ↔ k = 0 := by
  unfold mK
  split <;> omega
theorem mK_g {k q : Int} (h : 9 ≤ q) : mK k = 91 + q ↔ k = q := by
  unfold mK
  split <;> omega
theorem mK_62 (k : Int) : mK k = 153 ↔ k = 62 := by
  unfold mK
  split <;> omega
theorem mK_11 (k : Int) : mK k = 102 ↔ k = 11 := by
  unfold mK
  split <;> omega
theorem mK_16 (k : Int) : mK k = 107 ↔ k = 16 := by
  unfold mK
  split <;> omega
/-- the words in the brackets, as the model has them -/
def WI (B : Int → Int) (c a : Int) (M : Nat) (τ : ga_S) : Prop := τ fM_insides 0 0 = M ∧ (M : Int) ≤ 64 ∧ ∀ j : Int, 0 ≤ j → j < M → τ fM_inside 0 j = pack (wx B c a j) ∧ isW (wx B c a j) ∧ wx B c a j ≠ [] ∧ (wx B c a j).length ≤ 12 ∧ kx B c a j = wKey (wx B c a j)
theorem wx_ok {B : Int → Int} {c a : Int} {j : Nat} (h : sK B true c a j = 0 ∨ 9 ≤ sK B true c a j) : isW (wx B c a j) ∧ wx B c a j ≠ [] ∧ (wx B c a j).length ≤ 12 ∧ kx B c a j = wKey (wx B c a j) := by
  have w := tkN_w (x := true) (h : tkK B true c (sP B true c a j) = 0 ∨ 9 ≤ tkK B true c (sP B true c a j))
  obtain ⟨p, ep⟩ : ∃ z, z = sP B true c a j := ⟨_, rfl⟩
  rw [← ep] at w
  have eW : wx B c a j = wdB B p (wEnd B c p - p) := by
    unfold wx
    have e3 : sE B true c a j = tkN B true c (sP B true c a j) := rfl
    rw [show ((j : Int)).toNat = j by omega, e3, ← ep, w.1]
  have S := sk_all (f := fun q => isLt (B q)) (n := c) p
  have E : wEnd B c p = sk (fun q => isLt (B q)) c p := rfl
  rw [← E] at S
  have gt : p < wEnd B c p := by
    have h1 : wEnd B c p = wEnd B c (p + 1) := by unfold wEnd; exact sk_s (f := fun q => isLt (B q)) w.2.1 w.2.2.1
    have h2 := (sk_all (f := fun q => isLt (B q)) (n := c) (p + 1)).1
    have E2 : wEnd B c (p + 1) = sk (fun q => isLt (B q)) c (p + 1) := rfl
    omega
  have le := w.2.2.2
  have lt := w.2.1
  have l := wdB_len (B := B) (p := p) (n := wEnd B c p - p) (by omega)
  have kp : tkK B true c p = if 12 < wEnd B c p - p then 7 else wKey (wdB B p (wEnd B c p - p)) := by
    unfold tkK
    rw [if_neg (by omega), if_neg (fun z => by cases z.2), if_pos w.2.2.1]
  rw [if_neg (by omega)] at kp
  rw [eW]
  refine ⟨wdB_W (fun q x1 x2 => S.2.2.2 q x1 (by omega)), ?_, by omega, ?_⟩
  · intro z
    rw [z] at l
    have l0 : ((([] : List Int).length : Nat) : Int) = 0 := rfl
    omega
  · unfold kx
    have t : sK B true c a j = tkK B true c (sP B true c a j) := rfl
    rw [show ((j : Int)).toNat = j by omega, t, ← ep, kp]
theorem WI_of {B : Int → Int} {c a : Int} {M : Nat} {τ : ga_S} (o : okW B c a M 0) (hM : (M : Int) ≤ 64) (h1 : τ fM_insides 0 0 = M) (h2 : ∀ j : Nat, j < M → τ fM_inside 0 j = pack (wx B c a j)) : WI B c a M τ := ⟨h1, hM, fun j x y => by
  have h := h2 j.toNat (by omega)
  have w := wx_ok (o.2 j.toNat (Nat.zero_le _) (by omega))
  rw [show ((j.toNat : Nat) : Int) = j by omega] at h w
  exact ⟨h, w⟩⟩
section
variable {σ0 τ0 : ga_S} {f : Int} {N : Nat} {B : Int → Int} {c a : Int} {M : Nat}
/-- the key of a word in brackets -/
theorem m_key {τ : ga_S} (hk : rKeys τ) (w : WI B c a M τ) {j : Int} (h0 : 0 ≤ j) (h1 : j < M) {d : Nat} (hd : 1 ≤ d) : c_m_keyOf d τ (τ fM_inside 0 j) = some (mK (kx B c a j), τ) := by
  have x := w.2.2 j h0 h1
  have r := kI_r KW (wx B c a j)
  rw [x.1, s_m_keyOf hd hk x.2.1, x.2.2.2.2]
  unfold mK wKey
  by_cases q : kI KW (wx B c a j) < 55
  · rw [if_pos q, if_pos q, if_neg (by omega), show (91 : Int) + (9 + kI KW (wx B c a j)) = 100 + kI KW (wx B c a j) by omega]
  · rw [if_neg q, if_neg q, if_pos rfl]
/-- what the words from i on mean -/
theorem m_found {τ : ga_S} (R : RD σ0 τ) (hk : rKeys τ) (w : WI B c a M τ) {i n : Int} (h0 : 0 ≤ i) (hn : 0 ≤ n) (h1 : i + n ≤ M) {d : Nat} (hd : 2 ≤ d) : ∃ k', c_m_foundIn d τ i n = some (k', τ) ∧ (frK (kx B c a) i (i + n) = false ∨ fnd σ0 (nx B c a i (i + n)) 0 = -1 → k' = -1) ∧ (frK (kx B c a) i (i + n) = true → fnd σ0 (nx B c a i (i + n)) 0 ≠ -1 → 0 ≤ k' ∧ k' < 300 ∧ τ fM_lexSort 0 k' = sM (σ0 fD_sorts 0 (fnd σ0 (nx B c a i (i + n)) 0)) (σ0 fD_numbers 0 (fnd σ0 (nx B c a i (i + n)) 0)) ∧ τ fM_lexIndex 0 k' = iM (σ0 fD_sorts 0 (fnd σ0 (nx B c a i (i + n)) 0)) (σ0 fD_numbers 0 (fnd σ0 (nx B c a i (i + n)) 0))) := by
  obtain ⟨d, rfl⟩ : ∃ e, d = e + 1 := ⟨d - 1, by omega⟩
  obtain ⟨k, ek⟩ : ∃ z, z = kx B c a := ⟨_, rfl⟩
  have M64 := w.2.1
  have k0 : ∀ q, 0 ≤ k q := fun q => by rw [ek]; exact kx_0 _ _ _ _
  have hl := R.2.2.1
  have key : ∀ q : Int, 0 ≤ q → q < M → c_m_keyOf d τ (τ fM_inside 0 q) = some (mK (k q), τ) := fun q x y => by rw [ek]; exact m_key hk w x y (by omega)
  rw [← ek]
  have lp : ∀ q, 0 ≤ q → q ≤ n → m_foundIn_2 d τ i n q = if frK k (i + q) (i + n) = true then m_foundIn_2 d τ i n n else some (-1, τ) := by
    refine rg_ind (n := n) (fun q hq _ h2 => ?_) (fun q hq ih x0 h2 => ?_)
    · have e : q = n := by omega
      have e2 : frK k (i + q) (i + n) = true := by unfold frK; exact rg_all0 (by omega)
      rw [e2, if_pos rfl, e]
    · have e : frK k (i + q) (i + n) = (decide (k (i + q) = 0) && frK k (i + q + 1) (i + n)) := by unfold frK; rw [rg_all (by omega)]
      have e1 := e_m_foundIn_2 d τ i n q
      rw [if_pos hq, w32_ok (by omega), ck_ok _ (by omega), key (i + q) (by omega) (by omega)] at e1
      simp only [Option.bind_some] at e1
      rw [e1]
      by_cases z : k (i + q) = 0
      · have y := ih (by omega) (by omega)
        rw [← Int.add_assoc i q 1] at y
        rw [if_pos ((mK_3 (k0 _)).mpr z), w32_ok (by omega), y, e, decide_eq_true z, Bool.true_and]
      · rw [if_neg (fun v => z ((mK_3 (k0 _)).mp v)), e, decide_eq_false z, Bool.false_and, if_neg (by decide)]
  obtain ⟨Q, eQ⟩ : ∃ z, z = (rg i (i + n)).map (wx B c a) := ⟨_, rfl⟩
  have QW : wsW Q := fun x hx => by
    rw [eQ] at hx
    obtain ⟨q, hq, rfl⟩ := List.mem_map.mp hx
    have m := (rg_mem i).mp hq
    have t := w.2.2 q (by omega) (by omega)
    exact ⟨t.2.1, t.2.2.1, t.2.2.2.1⟩
  have ql : (Q.length : Int) = n := by
    rw [eQ, List.length_map, rg_len, if_pos (by omega)]
    omega
  have qg : ∀ j : Nat, (j : Int) < n → Q.getD j [] = wx B c a (i + j) := fun j hj => by
    rw [eQ]
    exact rg_getD (wx B c a) [] j i (i + n) (by omega)
  have jq : nx B c a i (i + n) = jn Q := by rw [eQ]; rfl
  have main : ∃ k', m_foundIn_2 d τ i n n = some (k', τ) ∧ (fnd σ0 (jn Q) 0 = -1 → k' = -1) ∧ (fnd σ0 (jn Q) 0 ≠ -1 → 0 ≤ k' ∧ k' < τ fM_lexes 0 0 ∧ τ fM_lexSort 0 k' = sM (σ0 fD_sorts 0 (fnd σ0 (jn Q) 0)) (σ0 fD_numbers 0 (fnd σ0 (jn Q) 0)) ∧ τ fM_lexIndex 0 k' = iM (σ0 fD_sorts 0 (fnd σ0 (jn Q) 0)) (σ0 fD_numbers 0 (fnd σ0 (jn Q) 0))) := by
    rw [e_m_foundIn_2, if_neg (Int.lt_irrefl n)]
    by_cases c1 : n < 1
    · have e := RD_none R QW (Or.inl (by omega))
      rw [if_pos c1, e_m_foundIn_41]
      exact ⟨-1, rfl, fun _ => rfl, fun z => absurd e z⟩
    · rw [if_neg c1]
      by_cases c2 : 3 < n
      · have e := RD_none R QW (Or.inr (by omega))
        rw [if_pos c2, e_m_foundIn_41]
        exact ⟨-1, rfl, fun _ => rfl, fun z => absurd e z⟩
      · have w0 : τ fM_inside 0 i = pack (Q.getD 0 []) := by
          have g := qg 0 (by omega)
          rw [Int.natCast_zero, Int.add_zero] at g
          rw [g]
          exact (w.2.2 i h0 (by omega)).1
        have fin : ∀ b' c' : Int, (1 < Q.length → b' = pack (Q.getD 1 [])) → (2 < Q.length → c' = pack (Q.getD 2 [])) → ∃ k', m_foundIn_86 d τ n c' b' (τ fM_inside 0 i) = some (k', τ) ∧ (fnd σ0 (jn Q) 0 = -1 → k' = -1) ∧ (fnd σ0 (jn Q) 0 ≠ -1 → 0 ≤ k' ∧ k' < τ fM_lexes 0 0 ∧ τ fM_lexSort 0 k' = sM (σ0 fD_sorts 0 (fnd σ0 (jn Q) 0)) (σ0 fD_numbers 0 (fnd σ0 (jn Q) 0)) ∧ τ fM_lexIndex 0 k' = iM (σ0 fD_sorts 0 (fnd σ0 (jn Q) 0)) (σ0 fD_numbers 0 (fnd σ0 (jn Q) 0))) := by
          intro b' c' hb hc
          rw [e_m_foundIn_86, s_m_find (by omega) hl, ← ql]
          simp only [Option.bind_some]
          exact ⟨_, rfl, RD_find R QW (by omega) (by omega) w0 hb hc⟩
        have m69 : ∀ b' : Int, (1 < Q.length → b' = pack (Q.getD 1 [])) → ∃ k', m_foundIn_69 d τ i n b' (τ fM_inside 0 i) = some (k', τ) ∧ (fnd σ0 (jn Q) 0 = -1 → k' = -1) ∧ (fnd σ0 (jn Q) 0 ≠ -1 → 0 ≤ k' ∧ k' < τ fM_lexes 0 0 ∧ τ fM_lexSort 0 k' = sM (σ0 fD_sorts 0 (fnd σ0 (jn Q) 0)) (σ0 fD_numbers 0 (fnd σ0 (jn Q) 0)) ∧ τ fM_lexIndex 0 k' = iM (σ0 fD_sorts 0 (fnd σ0 (jn Q) 0)) (σ0 fD_numbers 0 (fnd σ0 (jn Q) 0))) := by
          intro b' hb
          rw [e_m_foundIn_69]
          by_cases c4 : 2 < n
          · rw [if_pos c4, w32_ok (by omega), ck_ok _ (by omega)]
            refine fin b' _ hb (fun _ => ?_)
            rw [qg 2 (by omega)]
            exact (w.2.2 (i + 2) (by omega) (by omega)).1
          · rw [if_neg c4]
            exact fin b' 0 hb (fun z => by omega)
        rw [if_neg c2, ck_ok _ (by omega)]
        by_cases c3 : 1 < n
        · rw [if_pos c3, w32_ok (by omega), ck_ok _ (by omega)]
          refine m69 _ (fun _ => ?_)
          rw [qg 1 (by omega)]
          exact (w.2.2 (i + 1) (by omega) (by omega)).1
        · rw [if_neg c3]
          exact m69 0 (fun z => by omega)
  obtain ⟨k', g1, g2, g3⟩ := main
  have l0 := lp 0 (Int.le_refl _) hn
  rw [Int.add_zero] at l0
  rw [e_m_foundIn, l0, jq]
  by_cases z : frK k i (i + n) = true
  · rw [if_pos z, g1]
    refine ⟨k', rfl, fun v => ?_, fun _ v => ?_⟩
    · rcases v with v | v
      · rw [z] at v; cases v
      · exact g2 v
    · have t := g3 v
      exact ⟨t.1, by omega, t.2.2⟩
  · rw [if_neg z]
    exact ⟨-1, rfl, fun _ => rfl, fun v => absurd v z⟩
/-- what they mean of a sort -/
def fnV (σ0 : ga_S) (k : Int → Int) (nm : Int → Int → List Int) (i j s : Int) : Int := if frK k i j = true then dN σ0 (nm i j) s else -1
theorem m_foundS {τ : ga_S} (R : RD σ0 τ) (hk : rKeys τ) (w : WI B c a M τ) {i n s ms : Int} (h0 : 0 ≤ i) (hn : 0 ≤ n) (h1 : i + n ≤ M) (hs : (s = 2 ∧ ms = 4) ∨ (s = 5 ∧ ms = 7)) {d : Nat} (hd : 2 ≤ d) : ∃ k', c_m_foundIn d τ i n = some (k', τ) ∧ (fnV σ0 (kx B c a) (nx B c a) i (i + n) s = -1 → k' = -1 ∨ (0 ≤ k' ∧ k' < 300 ∧ τ fM_lexSort 0 k' ≠ ms)) ∧ (fnV σ0 (kx B c a) (nx B c a) i (i + n) s ≠ -1 → 0 ≤ fnV σ0 (kx B c a) (nx B c a) i (i + n) s ∧ 0 ≤ k' ∧ k' < 300 ∧ τ fM_lexSort 0 k' = ms ∧ τ fM_lexIndex 0 k' = fnV σ0 (kx B c a) (nx B c a) i (i + n) s) := by
  obtain ⟨k', g1, g2, g3⟩ := m_found R hk w h0 hn h1 hd
  obtain ⟨nm, en⟩ : ∃ z, z = nx B c a i (i + n) := ⟨_, rfl⟩
  obtain ⟨k, ek⟩ : ∃ z, z = kx B c a := ⟨_, rfl⟩
  unfold fnV
  rw [← en, ← ek] at g2 g3 ⊢
  refine ⟨k', g1, ?_⟩
  by_cases z : frK k i (i + n) = true
  · rw [if_pos z]
    unfold dN
    by_cases y : fnd σ0 nm 0 = -1
    · rw [if_pos (Or.inl y)]
      exact ⟨fun _ => Or.inl (g2 (Or.inr y)), fun v => absurd rfl v⟩
    · have t := g3 z y
      have f0 := (fnd_r (σ := σ0) (nm := nm) (Int.le_refl 0)).resolve_left y
      have lv : live σ0 (fnd σ0 nm 0) := ⟨f0.1, f0.2.1, f0.2.2.1⟩
      have nu := (R.2.2.2.2.2.2.2 _ lv).2.2.2.1
      have sm : sM (σ0 fD_sorts 0 (fnd σ0 nm 0)) (σ0 fD_numbers 0 (fnd σ0 nm 0)) = ms ↔ σ0 fD_sorts 0 (fnd σ0 nm 0) = s := by
        rcases hs with v | v
        · rw [v.1, v.2]; exact sM_4 _ _
        · rw [v.1, v.2]; exact sM_7 _ _
      by_cases x : σ0 fD_sorts 0 (fnd σ0 nm 0) = s
      · rw [if_neg (fun v => v.elim y (fun u => u x))]
        have im : iM (σ0 fD_sorts 0 (fnd σ0 nm 0)) (σ0 fD_numbers 0 (fnd σ0 nm 0)) = σ0 fD_numbers 0 (fnd σ0 nm 0) := iM_n (by omega)
        exact ⟨fun v => by omega, fun _ => ⟨nu, t.1, t.2.1, t.2.2.1.trans (sm.mpr x), t.2.2.2.trans im⟩⟩
      · rw [if_pos (Or.inr x)]
        exact ⟨fun _ => Or.inr ⟨t.1, t.2.1, fun v => x (sm.mp (t.2.2.1.symm.trans v))⟩, fun v => absurd rfl v⟩
  · rw [if_neg z]
    exact ⟨fun _ => Or.inl (g2 (Or.inl (b_false z))), fun v => absurd rfl v⟩
/-- a thing in brackets, where nothing is written -/
theorem m_insideThingG {τ : ga_S} (R : RD σ0 τ) (hk : rKeys τ) (w : WI B c a M τ) {nk : Int} (hY : (τ fM_isDry 0 0 = 1 ∧ τ fM_nounKind 0 0 = nk) ∨ (τ fM_isDry 0 0 = 0 ∧ (τ fM_nounObject 0 0 = -1 ↔ nk = -1))) {i : Int} (h0 : 0 ≤ i) (h1 : i ≤ M) {d : Nat} (hd : 3 ≤ d) : c_m_insideThing d τ i = some (mT (inTh σ0 (kx B c a) (nx B c a) nk i M), τ) := by
  obtain ⟨d, rfl⟩ : ∃ e, d = e + 1 := ⟨d - 1, by omega⟩
  obtain ⟨k, ek⟩ : ∃ z, z = kx B c a := ⟨_, rfl⟩
  obtain ⟨nm, enm⟩ : ∃ z, z = nx B c a := ⟨_, rfl⟩
  have M64 := w.2.1
  have hM := w.1
  have k0 : ∀ q, 0 ≤ k q := fun q => by rw [ek]; exact kx_0 _ _ _ _
  have key : ∀ q : Int, 0 ≤ q → q < M → c_m_keyOf d τ (τ fM_inside 0 q) = some (mK (k q), τ) := fun q x y => by rw [ek]; exact m_key hk w x y (by omega)
  rw [← ek, ← enm]
  have s128 : ∀ s : Int, 0 ≤ s → s ≤ M → m_insideThing_128 d τ s = some (mT (fnV σ0 k nm s M 2), τ) := by
    intro s x y
    obtain ⟨k', g1, g2, g3⟩ := m_foundS R hk w (i := s) (n := (M : Int) - s) x (by omega) (by omega) (s := 2) (ms := 4) (Or.inl ⟨rfl, rfl⟩) (d := d) (by omega)
    rw [show s + ((M : Int) - s) = M by omega, ← ek, ← enm] at g2 g3
    obtain ⟨V, eV⟩ : ∃ z, z = fnV σ0 k nm s M 2 := ⟨_, rfl⟩
    rw [← eV] at g2 g3 ⊢
    rw [e_m_insideThing_128, hM, w32_ok (by omega), g1]
    simp only [Option.bind_some]
    by_cases z : V = -1
    · have t := g2 z
      rw [z, show mT (-1) = -9 from rfl]
      by_cases y1 : k' = -1
      · rw [if_pos y1]
      · have t' := t.resolve_left y1
        rw [if_neg y1, ck_ok _ (by omega), if_neg t'.2.2]
    · have t := g3 z
      have mv : mT V = V := by unfold mT; rw [if_neg z, if_neg (by omega), if_neg (by omega)]
      rw [if_neg (by omega), ck_ok _ (by omega), if_pos t.2.2.2.1, ck_ok _ (by omega), t.2.2.2.2, mv]
  have s101 : ∀ v2 : Int, v2 = M - i → m_insideThing_101 d τ i v2 = some (mT (fnV σ0 k nm (i + arK k i M) M 2), τ) := by
    intro v2 ev
    have ar := arK_r k i M
    rw [e_m_insideThing_101]
    by_cases y : i < M
    · rw [if_pos (by omega), ck_ok _ (by omega), key i h0 y]
      simp only [Option.bind_some]
      rw [s_m_isArt (by omega)]
      simp only [Option.bind_some]
      by_cases z : 9 ≤ k i ∧ k i ≤ 12
      · have e1 : arK k i M = 1 := by unfold arK; rw [if_pos ⟨y, z⟩]
        have e2 : mK (k i) = 91 + k i := (mK_g (by omega)).mpr rfl
        rw [decide_eq_true (p := 100 ≤ mK (k i) ∧ mK (k i) ≤ 103) (by omega), if_neg b2i_n, w32_ok (by omega), e1, s128 (i + 1) (by omega) (by omega)]
      · have e1 : arK k i M = 0 := by unfold arK; rw [if_neg (fun v => z v.2)]
        have e2 : ¬ (100 ≤ mK (k i) ∧ mK (k i) ≤ 103) := by unfold mK; split <;> omega
        rw [decide_eq_false e2, if_pos b2i_f, e_m_insideThing_127, e1, Int.add_zero, s128 i h0 h1]
    · have e1 : arK k i M = 0 := by unfold arK; rw [if_neg (fun v => y v.1)]
      rw [if_neg (by omega), e_m_insideThing_127, e1, Int.add_zero, s128 i h0 h1]
  have no : m_insideThing_61 d τ = some (-9, τ) := by rw [e_m_insideThing_61, e_m_insideThing_62, if_pos rfl]
  have ye : m_insideThing_57 d τ = some (mT (if nk ≠ -1 then -3 else -1), τ) := by
    rw [e_m_insideThing_57, e_m_insideThing_62, if_neg (by decide)]
    rcases hY with ⟨hY, hN⟩ | ⟨hY, hN⟩
    · rw [hY, if_neg (by decide), hN]
      by_cases v : nk = -1
      · rw [if_pos v, if_neg (fun u => u v)]; rfl
      · rw [if_neg v, if_pos v, e_m_insideThing_93]; rfl
    · rw [if_pos hY]
      by_cases v : nk = -1
      · rw [if_pos (hN.mpr v), if_neg (fun u => u v)]; rfl
      · rw [if_neg (fun u => v (hN.mp u)), if_pos v, e_m_insideThing_93]; rfl
  have pl : ¬ (i < (M : Int) ∧ k ((M : Int) - 1) = 62) → inTh σ0 k nm nk i M = fnV σ0 k nm (i + arK k i M) M 2 := by
    intro z
    unfold inTh fnV
    rw [if_neg z]
  have e1 : ∀ p : Prop, ∀ [Decidable p], p → (if p ∧ nk ≠ -1 then (-3 : Int) else -1) = if nk ≠ -1 then -3 else -1 := by
    intro p _ hp
    by_cases v : nk ≠ -1
    · rw [if_pos ⟨hp, v⟩, if_pos v]
    · rw [if_neg (fun u => v u.2), if_neg v]
  rw [e_m_insideThing, hM, w32_ok (by omega), w32_ok (by omega)]
  by_cases y : i < M
  · rw [if_pos (by omega), ck_ok _ (by omega), key ((M : Int) - 1) (by omega) (by omega)]
    simp only [Option.bind_some]
    by_cases z : k ((M : Int) - 1) = 62
    · have ev : inTh σ0 k nm nk i M = if ((M : Int) - i = 1 ∨ ((M : Int) - i = 2 ∧ k i = 11)) ∧ nk ≠ -1 then -3 else -1 := by unfold inTh; rw [if_pos ⟨y, z⟩]
      rw [if_pos ((mK_62 _).mpr z), ev]
      by_cases n1 : (M : Int) - i = 1
      · rw [if_pos n1, ye, e1 _ (Or.inl n1)]
      · rw [if_neg n1]
        by_cases n2 : (M : Int) - i = 2
        · rw [if_pos n2, ck_ok _ (by omega), key i h0 y]
          simp only [Option.bind_some]
          by_cases v : k i = 11
          · rw [if_pos ((mK_11 _).mpr v), ye, e1 _ (Or.inr ⟨n2, v⟩)]
          · rw [if_neg (fun u => v ((mK_11 _).mp u)), no, if_neg (fun u => u.1.elim n1 (fun u => v u.2))]; rfl
        · rw [if_neg n2, no, if_neg (fun u => u.1.elim n1 (fun u => n2 u.1))]; rfl
    · rw [if_neg (fun u => z ((mK_62 _).mp u)), s101 _ rfl, pl (fun u => z u.2)]
  · rw [if_neg (by omega), s101 _ rfl, pl (fun u => y u.1)]
theorem m_insideThing {τ : ga_S} (R : RD σ0 τ) (hk : rKeys τ) (w : WI B c a M τ) {nk : Int} (hY : τ fM_isDry 0 0 = 1) (hN : τ fM_nounKind 0 0 = nk) {i : Int} (h0 : 0 ≤ i) (h1 : i ≤ M) {d : Nat} (hd : 3 ≤ d) : c_m_insideThing d τ i = some (mT (inTh σ0 (kx B c a) (nx B c a) nk i M), τ) := m_insideThingG R hk w (Or.inl ⟨hY, hN⟩) h0 h1 hd
end

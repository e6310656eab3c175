/-! plurals in s: one name, on both sides -/
theorem len3 {W : List (List Int)} (h1 : 1 ≤ W.length) (h3 : W.length ≤ 3) : (∃ x, W = [x]) ∨ (∃ x y, W = [x, y]) ∨ ∃ x y z, W = [x, y, z] := by
  match W, h1, h3 with
  | [x], _, _ => exact Or.inl ⟨x, rfl⟩
  | [x, y], _, _ => exact Or.inr (Or.inl ⟨x, y, rfl⟩)
  | [x, y, z], _, _ => exact Or.inr (Or.inr ⟨x, y, z, rfl⟩)
  | [], h, _ => exact absurd h (by simp)
  | _ :: _ :: _ :: _ :: _, _, h => exact absurd h (by simp)
theorem wsW_s {w : List Int} (h : isW w ∧ w ≠ [] ∧ w.length ≤ 12) (hl : w.length ≤ 11) : isW (w ++ [115]) ∧ w ++ [115] ≠ [] ∧ (w ++ [115]).length ≤ 12 := by
  refine ⟨fun c hc => ?_, by simp, by rw [List.length_append]; simp; omega⟩
  rcases List.mem_append.mp hc with z | z
  · exact h.1 c z
  · rw [List.mem_singleton] at z; omega
/-- the last word with an s, as the model has it -/
theorem lg_word {w : List Int} (h : isW w ∧ w ≠ [] ∧ w.length ≤ 12) : (w.length ≤ 11 ∧ ga_lcmp (ga_lshr (pack w) 55) 0 = 0 ∧ ga_lor (ga_lshl (pack w) 5) 19 = pack (w ++ [115])) ∨ (w.length = 12 ∧ ¬ ga_lcmp (ga_lshr (pack w) 55) 0 = 0) := by
  have pr := pack_lt h.1
  have p12 := pack_12 h.1 h.2.2
  by_cases q : w.length ≤ 11
  · have p11' := pack_11 h.1 q
    exact Or.inl ⟨q, (lshr55 pr.1 p12).mpr p11', by rw [lor5 pr.1 (by omega) (by omega) (by omega), ← pack_s]⟩
  · have l12 : w.length = 12 := by have := h.2.2; omega
    have pg := pack_ge h.1 h.2.1
    rw [l12] at pg
    have e11 : (32 : Int) ^ (12 - 1) = 36028797018963968 := by decide
    rw [e11] at pg
    exact Or.inr ⟨l12, fun z => by have := (lshr55 pr.1 p12).mp z; omega⟩
theorem m_pl_210 (d : Nat) (υ : ga_S) (v1 v2 v3 k p n lg X : Int) (hn : 1 ≤ n ∧ n ≤ 3) (hp : 0 ≤ p ∧ p + n ≤ 5002) : m_doKinds_210 d υ v1 v2 v3 k p n lg X = m_doKinds_276 d υ v1 v2 v3 k n lg (if n = 1 then X else υ fM_word 0 p) (if n = 2 then X else if n = 3 then υ fM_word 0 (p + 1) else 0) (if n = 3 then X else 0) := by
  have z : n = 1 ∨ n = 2 ∨ n = 3 := by omega
  rcases z with z | z | z
  · rw [e_m_doKinds_210, if_pos z, e_m_doKinds_230, if_neg (by omega), if_neg (by omega), e_m_doKinds_262, if_neg (by omega), if_pos z, if_neg (by omega), if_neg (by omega), if_neg (by omega)]
  · rw [e_m_doKinds_210, if_neg (by omega), ck_ok _ (by omega), e_m_doKinds_230, if_pos z, e_m_doKinds_262, if_neg (by omega), if_neg (by omega), if_pos z, if_neg (by omega)]
  · rw [e_m_doKinds_210, if_neg (by omega), ck_ok _ (by omega), e_m_doKinds_230, if_neg (by omega), if_pos (by omega), w32_ok (x := p + 1) (by omega), ck_ok _ (by omega), e_m_doKinds_262, if_pos z, if_neg (by omega), if_neg (by omega), if_pos z, if_pos z]
theorem m_pl_step {υ : ga_S} {W : List (List Int)} {p n r k : Int} (hW : wsW W) (h1 : 1 ≤ W.length) (h3 : W.length ≤ 3) (hn : (W.length : Int) = n) (hp : 0 ≤ p ∧ p + n ≤ 5002) (w : ∀ i : Nat, i < W.length → υ fM_word 0 (p + i) = pack (W.getD i [])) (hr : w32 (υ fM_listFrom 0 0 + k) = r) (hr0 : 0 ≤ r ∧ r < 2600) (hf : υ fM_runFrom 0 r = p) (hz : υ fM_runSize 0 r = n) (hk : k < υ fM_listSize 0 0) (d : Nat) (v1 v2 v3 : Int) : ∃ lg A B C W2, (lg = 0 ∨ lg = 1) ∧ m_doKinds_124 d υ v1 v2 v3 k = m_doKinds_276 d υ v1 v2 v3 k n lg A B C ∧ A = pack (W2.getD 0 []) ∧ (1 < W2.length → B = pack (W2.getD 1 [])) ∧ (2 < W2.length → C = pack (W2.getD 2 [])) ∧ W2.length = W.length ∧ wsW W2 ∧ ((lg = 0 ∧ jn W2 = jn W ++ [115]) ∨ (lg = 1 ∧ W2 = W ∧ lastL W = 12)) := by
  have hn3 : 1 ≤ n ∧ n ≤ 3 := by omega
  have run0 := e_m_doKinds_124 d υ v1 v2 v3 k
  rw [if_pos hk, hr, ck_ok _ hr0, ck_ok _ hr0, hf, hz, w32_ok (x := p + n) (by omega), w32_ok (x := p + n - 1) (by omega), ck_ok _ (by omega)] at run0
  have go : ∀ l : List Int, isW l ∧ l ≠ [] ∧ l.length ≤ 12 → υ fM_word 0 (p + n - 1) = pack l → ∃ lg X, (lg = 0 ∨ lg = 1) ∧ m_doKinds_124 d υ v1 v2 v3 k = m_doKinds_210 d υ v1 v2 v3 k p n lg X ∧ ((lg = 0 ∧ l.length ≤ 11 ∧ X = pack (l ++ [115])) ∨ (lg = 1 ∧ l.length = 12 ∧ X = pack l)) := by
    intro l hl e
    rw [e] at run0
    rcases lg_word hl with z | z
    · rw [if_pos z.2.1, e_m_doKinds_190, if_pos rfl] at run0
      exact ⟨0, _, Or.inl rfl, run0, Or.inl ⟨rfl, z.1, z.2.2⟩⟩
    · rw [if_neg z.2, e_m_doKinds_190, if_neg (by decide)] at run0
      exact ⟨1, _, Or.inr rfl, run0, Or.inr ⟨rfl, z.1, rfl⟩⟩
  rcases len3 h1 h3 with ⟨x, e⟩ | ⟨x, y, e⟩ | ⟨x, y, z, e⟩
  · subst e
    have n1 : n = 1 := by rw [← hn]; rfl
    have w0 : υ fM_word 0 (p + n - 1) = pack x := by
      have := w 0 (by simp)
      rw [show p + n - 1 = p + ((0 : Nat) : Int) by omega]; exact this
    obtain ⟨lg, X, a1, a2, a3⟩ := go x (hW x (by simp)) w0
    rw [m_pl_210 d υ v1 v2 v3 k p n lg X hn3 hp, if_pos n1, if_neg (by omega), if_neg (by omega), if_neg (by omega)] at a2
    rcases a3 with ⟨c1, c2, c3⟩ | ⟨c1, c2, c3⟩
    · refine ⟨lg, _, _, _, [x ++ [115]], a1, a2, c3, fun z => absurd z (by simp), fun z => absurd z (by simp), rfl, ?_, Or.inl ⟨c1, rfl⟩⟩
      intro u hu
      rw [List.mem_singleton] at hu
      subst hu
      exact wsW_s (hW x (by simp)) c2
    · exact ⟨lg, _, _, _, [x], a1, a2, c3, fun z => absurd z (by simp), fun z => absurd z (by simp), rfl, hW, Or.inr ⟨c1, rfl, c2⟩⟩
  · subst e
    have n1 : n = 2 := by rw [← hn]; rfl
    have w0 : υ fM_word 0 p = pack x := by
      have := w 0 (by simp)
      rw [show p + ((0 : Nat) : Int) = p by omega] at this; exact this
    have w1 : υ fM_word 0 (p + n - 1) = pack y := by
      have := w 1 (by simp)
      rw [show p + n - 1 = p + ((1 : Nat) : Int) by omega]; exact this
    obtain ⟨lg, X, a1, a2, a3⟩ := go y (hW y (by simp)) w1
    rw [m_pl_210 d υ v1 v2 v3 k p n lg X hn3 hp, if_neg (by omega), if_pos n1, if_neg (by omega), w0] at a2
    rcases a3 with ⟨c1, c2, c3⟩ | ⟨c1, c2, c3⟩
    · refine ⟨lg, _, _, _, [x, y ++ [115]], a1, a2, rfl, fun _ => c3, fun z => absurd z (by simp), rfl, ?_, Or.inl ⟨c1, jn_addS [x, y] (by simp)⟩⟩
      intro u hu
      rcases List.mem_cons.mp hu with hu | hu
      · rw [hu]; exact hW x (by simp)
      · rw [List.mem_singleton] at hu
        rw [hu]; exact wsW_s (hW y (by simp)) c2
    · exact ⟨lg, _, _, _, [x, y], a1, a2, rfl, fun _ => c3, fun z => absurd z (by simp), rfl, hW, Or.inr ⟨c1, rfl, c2⟩⟩
  · subst e
    have n1 : n = 3 := by rw [← hn]; rfl
    have w0 : υ fM_word 0 p = pack x := by
      have := w 0 (by simp)
      rw [show p + ((0 : Nat) : Int) = p by omega] at this; exact this
    have w1 : υ fM_word 0 (p + 1) = pack y := by
      have := w 1 (by simp)
      rw [show p + ((1 : Nat) : Int) = p + 1 by omega] at this; exact this
    have w2 : υ fM_word 0 (p + n - 1) = pack z := by
      have := w 2 (by simp)
      rw [show p + n - 1 = p + ((2 : Nat) : Int) by omega]; exact this
    obtain ⟨lg, X, a1, a2, a3⟩ := go z (hW z (by simp)) w2
    rw [m_pl_210 d υ v1 v2 v3 k p n lg X hn3 hp, if_neg (by omega), if_neg (by omega), if_pos n1, if_pos n1, w0, w1] at a2
    rcases a3 with ⟨c1, c2, c3⟩ | ⟨c1, c2, c3⟩
    · refine ⟨lg, _, _, _, [x, y, z ++ [115]], a1, a2, rfl, fun _ => rfl, fun _ => c3, rfl, ?_, Or.inl ⟨c1, jn_addS [x, y, z] (by simp)⟩⟩
      intro u hu
      rcases List.mem_cons.mp hu with hu | hu
      · rw [hu]; exact hW x (by simp)
      · rcases List.mem_cons.mp hu with hu | hu
        · rw [hu]; exact hW y (by simp)
        · rw [List.mem_singleton] at hu
          rw [hu]; exact wsW_s (hW z (by simp)) c2
    · exact ⟨lg, _, _, _, [x, y, z], a1, a2, rfl, fun _ => rfl, fun _ => c3, rfl, hW, Or.inr ⟨c1, rfl, c2⟩⟩
theorem k_findA {σ ρ τ : ga_S} (R : RD σ τ) (h : ∀ F, F ∈ dicL → ρ F = σ F) {nm : List Int} (A : AT ρ nm) {d : Nat} (hd : 2 ≤ d) : c_d_find d ρ = some (fnd σ nm 0, ρ) := by
  have D := dic_c h
  rw [s_d_find hd (D.2.2.2 R.1) A.2.1 A.2.2, D.1, A.1, fnd_take R nm]
section
variable {σ τ : ga_S} {f : Int} {N : Nat}
/-- one name's plural in s -/
theorem pl_step (ET : ENV σ τ f N ∧ TOK σ τ f N) {ρ υ : ga_S} {g : Int} (S : tkS σ ρ) (T : tkT τ υ) (D : DW ρ υ g) {r a b k n mi ms : Int} (hr : RU σ τ f N r a b) (h1 : a < b) (h3 : b - a ≤ 3) (hl : w32 (υ fM_listFrom 0 0 + k) = r) (hk : 0 ≤ k ∧ k < υ fM_listSize 0 0) (hk5 : k < 5000) {v1 v2 v3 : Int} (hv : (v3 = 0 ∧ n = v1 + k ∧ mi = n ∧ ms = 1 ∧ n < 16 ∧ n < ρ fW_kinds 0 0) ∨ (v3 ≠ 0 ∧ n = 100 + (v2 + k) ∧ mi = v2 + k ∧ ms = 3 ∧ n < 108 ∧ n < 100 + ρ fW_types 0 0 ∧ 100 ≤ n)) (hn0 : 0 ≤ n) (nn : ∀ j, live ρ j → ρ fD_sorts 0 j = 11 → ρ fD_numbers 0 j ≠ n) (there : fnd ρ (nmT σ a b) 0 ≠ -1 ∧ ρ fD_sorts 0 (fnd ρ (nmT σ a b) 0) ≠ 11) (fresh : lastL (wsT σ 0 a b) = 12 → fnd ρ (nmT σ a b ++ [115]) 0 = -1) {d d' : Nat} (hd : 3 ≤ d) (hd' : 1 ≤ d') : ∃ ρ' υ', c_r_pluralWithS d ρ a b n = some (0, ρ') ∧ m_doKinds_124 d' υ v1 v2 v3 k = m_doKinds_124 d' υ' v1 v2 v3 (k + 1) ∧ fr (dicL ++ spL) ρ ρ' ∧ fr lexL υ υ' ∧ DW ρ' υ' g ∧ ((fnd ρ (nmT σ a b ++ [115]) 0 ≠ -1 ∧ ∀ F, F ∈ dicL → ρ' F = ρ F) ∨ (fnd ρ (nmT σ a b ++ [115]) 0 = -1 ∧ DT ρ ρ' (nmT σ a b ++ [115]) 11 n)) := by
  obtain ⟨d, rfl⟩ : ∃ e, d = e + 1 := ⟨d - 1, by omega⟩
  have rm := DW_room D
  have R := D.1
  have hr' := hr
  obtain ⟨r0, r1, r2, hb⟩ := hr'
  have hW := wsT_W ET.2 hb
  have l := wsT_len (σ := σ) hb.2.1
  have tw := tW_of (τ' := υ) ⟨ET.1.1, ET.1.2.1⟩ ET.2 (T _ (by decide)) hb
  have hf0 := ET.1.1
  have hN := ET.1.2.1
  have b1 := hb.1
  have b3 := hb.2.2.1
  obtain ⟨nm, en⟩ : ∃ x, x = nmT σ a b := ⟨_, rfl⟩
  have hL : (nm ++ [115]).length ≤ 40 := by
    have := jn_len (wsT σ 0 a b) (fun w hw => (hW w hw).2.2)
    have e : nm.length = (jn (wsT σ 0 a b)).length := by rw [en]; rfl
    rw [List.length_append]
    simp
    omega
  obtain ⟨lg, A, B, C, W2, m0, m1, m2, m3, m4, m5, m6, m7⟩ := m_pl_step (υ := υ) (W := wsT σ 0 a b) (p := f + a) (n := b - a) (r := r) (k := k) hW (by omega) (by omega) (by omega) (by omega) tw.2.2 hl r0 (by rw [T _ (by decide)]; exact r1) (by rw [T _ (by decide)]; exact r2) hk.2 d' v1 v2 v3
  obtain ⟨ρ1, c1, c2, c3⟩ := k_spellA ET S hb (d := d) (by omega)
  obtain ⟨ρ2, c4, c5, c6⟩ := k_withS c3 (d := d) (by omega)
  rw [← en] at c3 c6 there fresh
  rw [← en]
  have f12 : fr spL ρ ρ2 := fr_trans c2 c5
  have dic2 : ∀ F, F ∈ dicL → ρ2 F = ρ F := fr_mem f12 (by decide)
  have fi := k_findA R dic2 c6 (d := d) (by omega)
  have run0 : c_r_pluralWithS (d + 1) ρ a b n = (if fnd ρ (nm ++ [115]) 0 = -1 then (c_d_tell d ρ2 11 n).bind fun q4 => some (0, q4.2) else some (0, ρ2)) := by
    rw [e_r_pluralWithS, c1]
    simp only [Option.bind_some]
    rw [c4]
    simp only [Option.bind_some]
    rw [fi]
    simp only [Option.bind_some]
  by_cases q : fnd ρ (nm ++ [115]) 0 = -1
  · -- it is told on both sides
    obtain ⟨ρ3, c7, c8, c9⟩ := k_tell c6 hL ((dic_c dic2).2.2.2 R.1) (by rw [dic2 fD_count (by decide)]; exact rm.2.2.1) (by rw [dic2 fD_used (by decide)]; exact rm.2.2.2) (d := d) (by omega) 11 n
    have T3 := DT_pre f12 c8
    rw [if_pos q, c7] at run0
    have w3 : W2.length ≤ 3 := by omega
    obtain ⟨υ1, g1, g2, g3, g4⟩ := m_tellS (τ := υ) (by omega) (W := W2) lg (a := A) (b := B) (c := C) (s := ms) mi (fun _ => ⟨m2, m3, m4⟩) w3 (d := d') hd'
    obtain ⟨υ2, e2⟩ : ∃ x, x = ga_up υ1 fM_lexLong 0 (υ fM_lexes 0 0) lg := ⟨_, rfl⟩
    rw [← e2] at g4
    have ems : ms = sM 11 n := by
      rcases hv with z | z
      · show ms = if n < 100 then 1 else 3
        rw [if_pos (by omega)]; omega
      · show ms = if n < 100 then 1 else 3
        rw [if_neg (by omega)]; omega
    have emi : mi = iM 11 n := by
      unfold iM
      rcases hv with z | z
      · rw [if_neg (by omega)]; omega
      · rw [if_pos (by omega)]; omega
    have mx11 : mxN ρ 11 = 200 := rfl
    have D3 : DW ρ3 υ2 g := DW_tell D T3 g4 m6 (by omega) (by omega) (by
        rcases m7 with z | z
        · exact Or.inl ⟨z.1, by rw [en]; exact z.2.symm⟩
        · refine Or.inr ⟨z.1, by rw [z.2.1]; exact z.2.2, ?_⟩
          rw [z.2.1, jn_addS _ (fun y => by rw [y] at l; simp at l; omega), en]; rfl) hL ems emi (by omega) (by omega) q (by omega) (fun _ => by omega) nn (fun V v1 v2 v3 => by
        have e : jn V = nm := List.append_cancel_right v3
        rw [e]; exact there)
    have stp : m_doKinds_276 d' υ v1 v2 v3 k (b - a) lg A B C = m_doKinds_124 d' υ2 v1 v2 v3 (k + 1) := by
      have x : m_doKinds_299 d' υ v1 v2 v3 k (b - a) lg A B C = m_doKinds_124 d' υ2 v1 v2 v3 (k + 1) := by
        have t := g1
        rw [m5, l] at t
        have x1 : m_doKinds_324 d' υ v1 v2 v3 k (b - a) lg A B C mi ms = m_doKinds_124 d' υ2 v1 v2 v3 (k + 1) := by
          rw [e_m_doKinds_324, t]
          simp only [Option.bind_some]
          rw [g2, w32_ok (x := υ fM_lexes 0 0 + 1 - 1) (by omega), ck_ok _ (by omega), z1_ok _ m0, show υ fM_lexes 0 0 + 1 - 1 = υ fM_lexes 0 0 by omega, ← e2, e_m_doKinds_348, w32_ok (x := k + 1) (by omega)]
        rcases hv with z | z
        · rw [e_m_doKinds_299, if_pos z.1, e_m_doKinds_309, if_pos z.1, w32_ok (x := v1 + k) (by omega), ← z.2.1, ← z.2.2.1]
          rw [z.2.2.2.1] at x1
          exact x1
        · rw [e_m_doKinds_299, if_neg z.1, e_m_doKinds_309, if_neg z.1, w32_ok (x := v2 + k) (by omega), ← z.2.2.1]
          rw [z.2.2.2.1] at x1
          exact x1
      rw [e_m_doKinds_276]
      by_cases y : lg = 0
      · have fd := RD_find R (Q := W2) m6 (by omega) (by omega) (a := A) (b := B) (c := C) m2 m3 m4
        have ej : jn W2 = nm ++ [115] := by
          rcases m7 with z | z
          · rw [en]; exact z.2
          · omega
        rw [ej] at fd
        have ff := s_m_find (τ := υ) (d := d') hd' R.2.2.1 A B C (b - a)
        have wl : (W2.length : Int) = b - a := by omega
        have f1 := fd.1 q
        rw [wl] at f1
        rw [if_pos y, ff]
        simp only [Option.bind_some]
        rw [f1, if_pos rfl]
        exact x
      · rw [if_neg y]; exact x
    exact ⟨ρ3, υ2, run0, m1.trans stp, T3.1, g4.1, D3, Or.inr ⟨q, T3⟩⟩
  · rw [if_neg q] at run0
    have y : lg = 0 := by
      rcases m7 with z | z
      · exact z.1
      · exact absurd (fresh z.2.2) q
    have ej : jn W2 = nm ++ [115] := by
      rcases m7 with z | z
      · rw [en]; exact z.2
      · omega
    have fd := RD_find R (Q := W2) m6 (by omega) (by omega) (a := A) (b := B) (c := C) m2 m3 m4
    rw [ej] at fd
    have f1 := (fd.2 q).1
    have wl : (W2.length : Int) = b - a := by omega
    rw [wl] at f1
    have ff := s_m_find (τ := υ) (d := d') hd' R.2.2.1 A B C (b - a)
    have stp : m_doKinds_276 d' υ v1 v2 v3 k (b - a) lg A B C = m_doKinds_124 d' υ v1 v2 v3 (k + 1) := by
      rw [e_m_doKinds_276, if_pos y, ff]
      simp only [Option.bind_some]
      rw [if_neg (show ¬ mfI υ A B C (b - a) 0 = -1 by omega), e_m_doKinds_348, w32_ok (x := k + 1) (by omega)]
    exact ⟨ρ2, υ, run0, m1.trans stp, fr_sub f12 (by decide), fr_refl _ _, DW_cm D dic2 (fun F hF => by rw [fr_mem f12 (M := cntL) (by decide) F hF]; exact Int.le_refl _) (fun _ _ => rfl) (by
      have Bc := D.2.2.2.2.1
      unfold cB at Bc ⊢
      rw [f12 fW_kinds (by decide), f12 fW_objects (by decide), f12 fW_types (by decide), f12 fW_values (by decide), f12 fW_properties (by decide), f12 fW_adjectives (by decide), f12 fW_relations (by decide), f12 fW_verbs (by decide), f12 fW_actions (by decide)]
      exact Bc), Or.inl ⟨q, dic2⟩⟩
end

/-! the dictionaries while a sentence acts -/
def DW (σ τ : ga_S) (g : Int) : Prop := RD σ τ ∧ WKd σ ∧ WKl σ ∧ DB σ τ g ∧ cB σ ∧ g ≤ 380
/-- room for one more -/
theorem DW_room {σ τ : ga_S} {g : Int} (D : DW σ τ g) : 0 ≤ τ fM_lexes 0 0 ∧ τ fM_lexes 0 0 ≤ 212 ∧ σ fD_count 0 0 < 640 ∧ σ fD_used 0 0 + 40 ≤ 24000 := by
  obtain ⟨R, Wd, _, ⟨b1, b2, b3, b4⟩, B, hg⟩ := D
  have := lex_b R B Wd b3
  have := R.2.1
  exact ⟨by omega, by omega, by omega, by omega⟩
theorem DW_cm {σ τ σ' τ' : ga_S} {g : Int} (D : DW σ τ g) (h1 : ∀ F, F ∈ dicL → σ' F = σ F) (h3 : ∀ F, F ∈ cntL → σ F 0 0 ≤ σ' F 0 0) (h2 : ∀ F, F ∈ lexL → τ' F = τ F) (B : cB σ') : DW σ' τ' g := by
  obtain ⟨R, Wd, Wl, b, _, hg⟩ := D
  exact ⟨RD_cm R h1 h2, WKd_up Wd h1 h3, WKl_up Wl h1, DB_cm b h1 h2, B, hg⟩
theorem p11 {σ : ga_S} (B : cB σ) (h : WKd σ) : ∀ k, live σ k → σ fD_sorts 0 k = 11 → σ fD_numbers 0 k < 16 ∨ 100 ≤ σ fD_numbers 0 k := by
  intro k l e
  have := (h k l).2 e
  have := B.1
  omega
/-- an entry is told on both sides -/
theorem DW_tell {σ τ σ' τ' : ga_S} {g : Int} (D : DW σ τ g) {L : List Int} {W : List (List Int)} {lg s n ms im : Int} (e2 : DT σ σ' L s n) (g2 : MT τ τ' W lg ms im) (hW : wsW W) (h1 : 1 ≤ W.length) (h3 : W.length ≤ 3) (gl : lgR W lg L) (hL : L.length ≤ 40) (hms : ms = sM s n) (him : im = iM s n) (hs : 0 ≤ s ∧ s ≤ 12 ∧ s ≠ 10) (hn : 0 ≤ n ∧ n < 200) (new : fnd σ L 0 = -1) (hm : n < mxN σ s) (hp : s = 11 → n < σ fW_kinds 0 0 ∨ (100 ≤ n ∧ n < 100 + σ fW_types 0 0)) (nn : ∀ k, live σ k → σ fD_sorts 0 k = s → σ fD_numbers 0 k ≠ n) (h13 : ∀ V : List (List Int), wsW V → lastL V = 12 → jn V ++ [115] = L → fnd σ (jn V) 0 ≠ -1 ∧ σ fD_sorts 0 (fnd σ (jn V) 0) ≠ 11) : DW σ' τ' g := by
  have rm := DW_room D
  obtain ⟨R, Wd, Wl, db, B, hg⟩ := D
  have k16 := B.1
  refine ⟨RD_tell R e2 g2 (by omega) hW h1 h3 gl hL hms him hs hn new nn, WKd_tell R.1 e2 (by omega) Wd hm hp, WKl_tell R e2 (by omega) new Wl h13, DB_tell db R e2 g2 hL hms him ⟨hs.2.1, hs.1, hs.2.2⟩ hn.1 (fun z => by have := hp z; omega) (p11 B Wd) nn, ?_, hg⟩
  have fe := e2.1
  unfold cB
  rw [fe fW_kinds (by decide), fe fW_objects (by decide), fe fW_adjectives (by decide), fe fW_types (by decide), fe fW_values (by decide), fe fW_properties (by decide), fe fW_relations (by decide), fe fW_verbs (by decide), fe fW_actions (by decide)]
  exact B
section
variable {σ0 τ0 : ga_S} {f : Int} {N : Nat}
/-- a name of the sentence that means nothing yet is told on both sides -/
theorem tell_J {σ τ : ga_S} {g : Int} (E : ENV σ0 τ0 f N ∧ TOK σ0 τ0 f N) (S : tkS σ0 σ) (T : tkT τ0 τ) (D : DW σ τ g) {r a b s n : Int} (hr : RU σ0 τ0 f N r a b) (h1 : a < b) (h3 : b - a ≤ 3) (new : fnd σ (nmT σ0 a b) 0 = -1) (hs : 0 ≤ s ∧ s ≤ 12 ∧ s ≠ 10) (hn : 0 ≤ n ∧ n < 200) (hm : n < mxN σ s) (hp : s = 11 → n < σ fW_kinds 0 0 ∨ (100 ≤ n ∧ n < 100 + σ fW_types 0 0)) (nn : ∀ k, live σ k → σ fD_sorts 0 k = s → σ fD_numbers 0 k ≠ n) {d d' : Nat} (hd : 3 ≤ d) (hd' : 3 ≤ d') : ∃ σ' τ', c_r_tell d σ a b s n = some (0, σ') ∧ c_m_tellRun d' τ (sM s n) (iM s n) r = some (0, τ') ∧ DT σ σ' (nmT σ0 a b) s n ∧ MT τ τ' (wsT σ0 0 a b) 0 (sM s n) (iM s n) ∧ DW σ' τ' g ∧ tkS σ0 σ' ∧ tkT τ0 τ' := by
  have rm := DW_room D
  have hW := wsT_W E.2 hr.2.2.2
  have l := wsT_len (σ := σ0) hr.2.2.2.2.1
  obtain ⟨σ', e1, e2, _⟩ := k_tellA E S D.1.1 rm.2.2.1 rm.2.2.2 hr.2.2.2 h3 hd s n
  obtain ⟨τ', g1, g2⟩ := m_tellA E T (by omega) hr h1 h3 hd' (sM s n) (iM s n)
  have hL : (nmT σ0 a b).length ≤ 40 := by
    have := jn_len (wsT σ0 0 a b) (fun w hw => (hW w hw).2.2)
    show (jn (wsT σ0 0 a b)).length ≤ 40
    omega
  exact ⟨σ', τ', e1, g1, e2, g2, DW_tell D e2 g2 hW (by omega) (by omega) (Or.inl ⟨rfl, rfl⟩) hL rfl rfl hs hn new hm hp nn (fun w w1 w2 w3 => (jn_no13 hW w w1 w2 w3).elim), tkS_d S e2, tkT_f T g2.1 (by decide)⟩
end

/-! a sentence of any sort but text is checked and done, on both sides -/
theorem sn_all {σ τ : ga_S} {f : Int} {N : Nat} {g : Int} (H : snH σ τ f N g) (hg : σ fR_sort 0 0 = 8 → g + 1 ≤ 380) (hp : σ fR_p 0 0 = N + 1) (R : seR σ τ f N) {d : Nat} (hd : 20 ≤ d) : snO σ τ g f d := by
  obtain ⟨e, R⟩ := R
  have h3 := H.2.2.2.2.2.2.2.2.2
  rcases R with ⟨s, U⟩ | ⟨s, D⟩ | ⟨s, U⟩ | ⟨s, O⟩
  · exact sn_1 H s (by omega) U hd
  · exact sn_2 H s (by omega) D hd
  · exact sn_ru H s e U hd
  · obtain ⟨_, O⟩ := O
    rcases O with ⟨s1, s2, s3, s4, _⟩ | ⟨s1, s2, s3, s4, s5, s6, s7, s8, s9⟩ | ⟨s1, s2, s3, s4, s5, s6, s7, p, B, s8⟩ | ⟨s1, s2, s3, s4, s5, s6, s7, s8⟩ | ⟨s1, s2⟩
    · rcases s1 with z | z
      · exact sn_7 H z (by omega) s3 s4 hd
      · exact sn_8 H (hg z) z (by omega) s3 s4 hd
    · have lt : σ fR_whatAt 0 0 < N := by
        by_cases z : σ fR_whatAt 0 0 = N
        · exfalso
          rcases s9 with y | y
          · rw [z] at y; omega
          · have w := y.2.2.1.2.2.2.2.2.2 (σ fR_runFrom 0 1) (Int.le_refl _) y.2.2.1.2.2.2.2.1
            rw [y.2.1, z] at w; omega
        · omega
      refine sn_9 H s1 (by omega) s3 s4 s5 ⟨s6, lt⟩ s8 ?_ hd
      rcases s9 with y | y
      · exact Or.inl y.1
      · refine Or.inr ⟨y.2.1, y.2.2.1, ?_⟩
        rcases y.2.2.2 with w | w
        · exfalso
          have v := (y.2.2.1.2.2.2.2.2.1.2 N (by omega) (by omega)).1
          exact v h3
        · exact w
    · obtain ⟨_, B2, B⟩ := B
      have rr0 : ∀ n, τ fM_what 0 0 = n → n = σ fR_names 0 0 → 1 ≤ σ fR_runs 0 0 → rr σ τ f 0 (τ fM_what 0 0) := by
        intro n h1 h2 h3
        have := B2 0 (Int.le_refl _) (by omega)
        rw [Int.add_zero, ← h2, ← h1] at this
        exact this
      rcases B with ⟨b1, b2⟩ | ⟨b1, b2⟩ | ⟨b1, b2, b3, b4⟩ | ⟨b1, b2, b3⟩ | ⟨b1, b2, b3, b4⟩ | ⟨b1, b2, b3, b4, b5, b6, b7, b8⟩ | ⟨b1, b2, b3, b4, b5, b6, b7⟩
      · exact sn_10 H b1 (by omega) s3 s4 s2 ⟨s5, s6⟩ B2 b2 hd
      · exact sn_11 H b1 (by omega) s3 s4 s2 ⟨s5, s6⟩ B2 b2 hd
      · exact sn_12 H b1 (by omega) s3 s4 s2 ⟨s5, s6⟩ (rr0 _ b3 rfl (by omega)) b4 hd
      · exact sn_13 H b1 (by omega) s3 s4 s2 ⟨s5, s6⟩ b3 hd
      · refine sn_14 H b1 (by omega) s3 s2 ⟨s5, s6⟩ (rr0 _ b3 rfl (by omega)) ?_ hd
        rw [b4]
        exact B2 1 (by decide) (by omega)
      · refine sn_15 H ⟨s3, s4, s2, ⟨s5, s6⟩, B2, b3, by omega, by omega, fun i i0 i1 => by omega⟩ b1 (by omega) b8 b5 b4 b6 s7 hd
      · exact sn_16 H ⟨s3, s4, s2, ⟨s5, s6⟩, B2, b3, by omega, b4, b5⟩ b1 (by omega) b7 ⟨p, s8, b6⟩ hd
    · have : σ fR_sort 0 0 = 17 ∨ σ fR_sort 0 0 = 18 ∨ σ fR_sort 0 0 = 19 := by omega
      rcases this with z | z | z
      · exact sn_17 H z (by omega) s3 s5 s6 hd
      · exact sn_18 H z (by omega) s3 s5 s6 s4 (s7 z) hd
      · exact sn_19 H z (by omega) s3 s5 s6 (s8 z) hd
    · exact sn_20 H s1 (by omega) s2 hd

/-! a story, on both sides -/
def bgS : List Nat := fM_fault :: fM_faultPlace :: fM_sentences :: bgM
theorem TOK_f {σ σ' τ τ' : ga_S} {f : Int} {N : Nat} (h : TOK σ τ f N) {L M : List Nat} (f1 : fr L σ σ') (hL : [fT_kinds, fT_places, fT_lengths, fT_bytes, fT_size].all (fun F => !(L.contains F)) = true) (f2 : fr M τ τ') (hM : [fM_place, fM_word, fM_length].all (fun F => !(M.contains F)) = true) : TOK σ' τ' f N := by
  have a := fun F hF => fr_no f1 hL (F := F) hF
  have b := fun F hF => fr_no f2 hM (F := F) hF
  unfold TOK byteR wT at h ⊢
  rw [a fT_kinds (by decide), a fT_places (by decide), a fT_lengths (by decide), a fT_bytes (by decide), a fT_size (by decide), b fM_place (by decide), b fM_word (by decide), b fM_length (by decide)]
  exact h
theorem IN_f {σ σ' : ga_S} (h : IN σ) {L : List Nat} (f1 : fr L σ σ') (hL : [fR_inner, fT_all, fT_inText, fT_bytes, fT_size].all (fun F => !(L.contains F)) = true) : IN σ' := by
  have a := fun F hF => fr_no f1 hL (F := F) hF
  unfold IN rAll at h ⊢
  rw [a fR_inner (by decide), a fT_all (by decide), a fT_inText (by decide), a fT_bytes (by decide), a fT_size (by decide)]
  exact h
theorem rKeys_f {τ τ' : ga_S} (h : rKeys τ) (e : τ' fM_keyWords = τ fM_keyWords) : rKeys τ' := by
  unfold rKeys at h ⊢
  rw [e]
  exact h
theorem i_10 : ga_iand 1 0 = 0 := by decide
theorem i_01 : ga_iand 0 1 = 0 := by decide
theorem i_11 : ga_iand 1 1 = 1 := by decide
theorem st_bad {σ : ga_S} (d : Nat) (s : Int) (h : σ fR_fault 0 0 ≠ 0) : r_story_159 d σ s 1 = some (-1, σ) := by
  rw [e_r_story_159, if_neg h, e_r_story_172, i_10, e_r_story_19, if_pos rfl, if_neg h]
theorem st_fin {σ : ga_S} (d : Nat) (s : Int) (h : σ fR_fault 0 0 = 0) : r_story_159 d σ s 0 = some (s, σ) := by
  rw [e_r_story_159, if_pos h, e_r_story_172, i_01, e_r_story_19, if_pos rfl, if_pos h]
theorem st_more {σ : ga_S} (d : Nat) (s : Int) (h : σ fR_fault 0 0 = 0) : r_story_159 d σ s 1 = r_story_19 d σ s 1 := by
  rw [e_r_story_159, if_pos h, e_r_story_172, i_11]
theorem m_failed {d : Nat} (hd : 1 ≤ d) (τ : ga_S) (a b : Int) : c_m_failed d τ a b = some (0, ga_up (ga_up τ fM_fault 0 0 a) fM_faultPlace 0 0 b) := by
  obtain ⟨d, rfl⟩ : ∃ e, d = e + 1 := ⟨d - 1, by omega⟩
  rw [e_m_failed]
theorem m_halt {τ : ga_S} (d : Nat) (h : τ fM_fault 0 0 ≠ 0) : m_readStory_36 d τ = some (0, τ) := by
  rw [e_m_readStory_36, if_neg h]
section
variable {σ σ1 τ τ1 : ga_S} {M : Nat} {f : Nat} {g s : Int}
/-- between two sentences -/
def ST0 (σ τ : ga_S) (M f : Nat) (g s : Int) : Prop := (rTok τ M ∧ BYT σ τ ∧ tOk σ 0 ∧ inT σ 0 = false ∧ POS σ τ f) ∧ (IN σ ∧ rKeys τ ∧ τ fM_isDry 0 0 = 0) ∧ (τ fM_at 0 0 = f ∧ τ fM_fault 0 0 = 0 ∧ τ fM_sentences 0 0 = s ∧ σ fR_fault 0 0 = 0) ∧ SI σ τ g ∧ ((0 ≤ s ∧ s ≤ f) ∧ (s = 0 → f = 0) ∧ 14 * g ≤ σ fT_at 0 0)
/-- the end of a story -/
def stE (σ τ σ' τ' : ga_S) (v : Int) : Prop := fr bgC σ σ' ∧ fr bgS τ τ' ∧ SLT σ' ∧ τ' fM_isDry 0 0 = 0 ∧ ((σ' fR_fault 0 0 ≠ 0 ∧ v = -1 ∧ τ' fM_fault 0 0 = σ' fR_fault 0 0 ∧ τ' fM_faultPlace 0 0 = σ' fR_where 0 0) ∨ (σ' fR_fault 0 0 = 0 ∧ 0 ≤ v ∧ τ' fM_fault 0 0 = 0 ∧ τ' fM_sentences 0 0 = v ∧ ∃ g, SI σ' τ' g))
theorem stE_l {σ' τ' : ga_S} {v : Int} (h : stE σ1 τ1 σ' τ' v) (f1 : fr bgC σ σ1) (f2 : fr bgS τ τ1) : stE σ τ σ' τ' v := ⟨fr_trans f1 h.1, fr_trans f2 h.2.1, h.2.2⟩
/-- a fault that a sentence has -/
theorem st_stop {σ2 τ2 : ga_S} (b : bdO σ1 τ1 σ2 τ2) (SL : SLT σ1) (d : Nat) (hd : 1 ≤ d) (x y z : Int) : r_story_159 d σ2 x 1 = some (-1, σ2) ∧ ∃ τ', m_readStory_136 d τ2 y = some (0, τ') ∧ stE σ1 τ1 σ2 τ' (-1) := by
  obtain ⟨⟨b1, b2, b3⟩, b4, b5, b6, b7⟩ := b
  refine ⟨st_bad _ _ b1, ga_up (ga_up (ga_up (ga_up τ2 fM_fault 0 0 (τ2 fM_bestFault 0 0)) fM_faultPlace 0 0 (τ2 fM_bestPlace 0 0)) fM_at 0 0 y) fM_sentences 0 0 (w32 (τ2 fM_sentences 0 0 + 1)), ?_, b4, ?_, SLT_f SL b6, ?_, Or.inl ⟨b1, rfl, ?_, ?_⟩⟩
  · rw [e_m_readStory_136, if_neg (by rw [b2]; exact b1), m_failed hd]
    simp only [Option.bind_some]
    rw [e_m_readStory_155, e_m_readStory_170, m_halt]
    · rw [up_F (F := fM_faultPlace) (F' := fM_sentences) (by decide), up_F (F := fM_fault) (F' := fM_sentences) (by decide)]
    · rw [up_F (by decide), up_F (by decide), up_F (by decide), up_eq, b2]; exact b1
  · exact fr_trans (fr_sub b5 (fun F hF => List.mem_cons_of_mem _ (List.mem_cons_of_mem _ (List.mem_cons_of_mem _ hF)))) (fr_trans (fr_trans (fr_trans (fr_u (by decide)) (fr_u (by decide))) (fr_u (by decide))) (fr_u (by decide)))
  · rw [up_F (by decide), up_F (by decide), up_F (by decide), up_F (by decide)]; exact b7
  · rw [up_F (by decide), up_F (by decide), up_F (by decide), up_eq, b2]
  · rw [up_F (by decide), up_F (by decide), up_eq, b3]
/-- a sentence behind its shape -/
theorem st_tail {d : Nat} (hd : 1 ≤ d) {F : Int} {b : Int} (O : snO σ1 τ1 g F d) (SL : SLT σ1) (hs : 0 ≤ s ∧ s ≤ 5001) (he : τ1 fM_sentences 0 0 = s) (next : ∀ σ2 τ2, gdO σ1 τ1 σ2 τ2 g → ∃ v σ' τ', r_story_19 d σ2 (s + 1) 1 = some (v, σ') ∧ m_readStory_36 d (ga_up (ga_up τ2 fM_at 0 0 b) fM_sentences 0 0 (s + 1)) = some (0, τ') ∧ stE σ1 τ1 σ' τ' v) : ∃ v σ' τ', ((c_r_check d σ1).bind fun q4 => if (q4.2 fR_fault 0 0) = 0 then (c_r_act d q4.2).bind fun q5 => r_story_159 d q5.2 (w32 (s + 1)) 1 else r_story_159 d q4.2 s 1) = some (v, σ') ∧ ((c_m_asked d τ1 F).bind fun q4 => if (q4.2 fM_bestFault 0 0) = 0 then (c_m_does1 d q4.2 F).bind fun q5 => m_readStory_136 d q5.2 b else m_readStory_136 d q4.2 b) = some (0, τ') ∧ stE σ1 τ1 σ' τ' v := by
  obtain ⟨σ2, τ2, a1, a2, a3⟩ := O
  rw [a1, a2]
  simp only [Option.bind_some]
  rcases a3 with a3 | ⟨a3, a4, x, σ3, τ3, a5, a6, a7⟩
  · obtain ⟨e1, τ', e2, e3⟩ := st_stop a3 SL d hd s b 0
    rw [if_neg a3.1.1, if_neg (by rw [a3.1.2.1]; exact a3.1.1)]
    exact ⟨_, _, _, e1, e2, e3⟩
  · rw [if_pos a3, if_pos a4, a5, a6]
    simp only [Option.bind_some]
    rcases a7 with a7 | a7
    · obtain ⟨e1, τ', e2, e3⟩ := st_stop a7 SL d hd (w32 (s + 1)) b 0
      exact ⟨_, _, _, e1, e2, e3⟩
    · obtain ⟨v, σ', τ', n1, n2, n3⟩ := next σ3 τ3 a7
      have sn : τ3 fM_sentences 0 0 = s := by rw [a7.2.2.2.2.1 _ (by decide)]; exact he
      refine ⟨v, σ', τ', ?_, ?_, n3⟩
      · rw [w32_ok (by omega), st_more _ _ a7.1]; exact n1
      · rw [e_m_readStory_136, if_pos a7.2.1, e_m_readStory_155, e_m_readStory_170, sn, w32_ok (by omega)]; exact n2
/-- from sentence to sentence -/
theorem ST0_next {σ2 τ2 : ga_S} {b : Nat} {g' : Int} (hR : rTok τ1 M) (hB : BYT σ1 τ1) (hT : tOk σ1 0) (hi : inT σ1 0 = false) (hP : POS σ1 τ1 b) (hI : IN σ1) (hK : rKeys τ1) (h0 : τ1 fM_fault 0 0 = 0) (fC : fr bgC σ1 σ2) (fM : fr bgM τ1 τ2) (ea : σ2 fT_at = σ1 fT_at) (hY : τ2 fM_isDry 0 0 = 0) (hf : σ2 fR_fault 0 0 = 0) (I : SI σ2 τ2 g') (hs : 0 ≤ s ∧ s + 1 ≤ b) (hg : 14 * g' ≤ σ1 fT_at 0 0) : ST0 σ2 (ga_up (ga_up τ2 fM_at 0 0 b) fM_sentences 0 0 (s + 1)) M b g' (s + 1) := by
  obtain ⟨υ, eu⟩ : ∃ x, x = ga_up (ga_up τ2 fM_at 0 0 b) fM_sentences 0 0 (s + 1) := ⟨_, rfl⟩
  have u1 : fr [fM_at, fM_sentences] τ2 υ := by rw [eu]; exact fr_trans (fr_u (by decide)) (fr_u (by decide))
  have u2 : fr (fM_sentences :: bgM) τ1 υ := fr_trans (fr_sub fM (fun F hF => List.mem_cons_of_mem _ hF)) (fr_sub u1 (by decide))
  rw [← eu]
  have eb : σ2 fT_bytes = σ1 fT_bytes := fC _ (by decide)
  have ez : σ2 fT_size = σ1 fT_size := fC _ (by decide)
  have ei : σ2 fT_inText = σ1 fT_inText := fC _ (by decide)
  have el : σ2 fT_all = σ1 fT_all := fC _ (by decide)
  refine ⟨⟨rTok_f hR (fun F hF => fr_no u2 (M := sfL) (by decide) hF), ?_, ?_, ?_, ?_⟩, ⟨IN_f hI fC (by decide), rKeys_f hK (u2 _ (by decide)), ?_⟩, ⟨?_, ?_, ?_, hf⟩, SI_f I (fr_refl [] σ2) (by decide) u1 (by decide), ⟨⟨by omega, by omega⟩, fun z => by omega, by rw [ea]; exact hg⟩⟩
  · unfold BYT byteR at hB ⊢
    rw [u2 fM_story (by decide), u2 fM_storySize (by decide), eb, ez]; exact hB
  · unfold tOk rAll at hT ⊢
    rw [ez, ea, el]; exact hT
  · unfold inT at hi ⊢
    rw [ei]; exact hi
  · unfold POS at hP ⊢
    rw [eb, ez, ea]; exact hP
  · rw [u1 _ (by decide)]; exact hY
  · rw [eu, up_F (by decide), up_eq]
  · rw [u2 _ (by decide)]; exact h0
  · rw [eu, up_eq]
end

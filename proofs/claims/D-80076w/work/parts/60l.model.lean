/-! the constructor of the model, up to its key words; of RuleSentences, its parts -/
def gk_model (K : Nat → ClassId) (D : va_G) (h : Nat) (H : Heap) : Prop := gk_obI K D 9 h (h + 1) it_mdl H
theorem gk_mdl {p : Program} {l : Launch} {e : Env} {R : Room} {s : State} {m : MethodId} {args : Array Value} {below : List Frame} {meth : Method} {c : Code} {Q : State → Prop} {K : Nat → ClassId} {D : va_G} {h : Nat} {ls : Array Slot} (S : CallFix p m c y_mdl.2.1 6 s args ga_tb "RuleSentencesModel") (hnm : meth.name = "<init>") (hsz : s.heap.size = h + 1) (hSt : gk_S K D s) (hJ : gk_ob0 D 9 h s.heap) (hls : lv_has ls 6 [(0, .ref h)]) (hR : 1 ≤ R.frames ∧ 12 ≤ R.locals) (hR2 : 91 ≤ R.cells ∧ 102032 ≤ R.slots)
    (kk : ∀ (H1 : Heap) (locs1 : List Loc), H1.size = h + 92 → gk_model K D h H1 → (∀ q : Nat, q < h → H1[q]? = s.heap[q]?) → va_S (gk_A h (h + 1)) s.heap H1 locs1 → W p l e R s m args below meth c H1 locs1 91 102032 Q (F0 m 787 ls [])) :
    W p l e R s m args below meth c s.heap [] 0 0 Q (F0 m 0 ls []) := by
  obtain ⟨hx, hb, hml, hown, hts⟩ := S
  obtain ⟨C, T, N, ty, j1, j2, j3⟩ := hJ
  cases (show (C, T, N) = ("RuleSentencesModel", am_T am_Tl_m, 166) from Option.some.inj (j1.symm.trans rfl))
  refine lv_aload_n hx hb (k := 0) (by decide +kernel) rfl (lv_at hls 0 rfl) ?_
  refine W.objInit hx hb hown (hts _ (gk_in_tb wo_mdl)) (hts _ (gk_in_tb jw_1_26)) (hts _ (gk_in_tb gk_obi)) rfl (by rw [hml]; exact hls.1) rfl (show decode y_mdl.2.1 1 = _ by decide +kernel) (by omega) (by show 2 * 0 + (0 : Nat) + 12 ≤ R.locals; omega) ?_
  show W p l e R s m args below meth c s.heap [] 0 0 Q (F0 m 4 ls [])
  refine gk_its hx hb hown hts hSt.1 hSt.2.1 hSt.2.2.1 rfl hnm (lv_at hls 0 rfl) (A := gk_A h (h + 1)) (Or.inl rfl) (fun q hq => Or.inr (by omega)) 787 it_mdl 4 s.heap _ [] 0 0 it_mdl_ch it_mdl_ck j3 va_S.rf (by rw [it_mdl_t.1]; omega) (by rw [it_mdl_t.2]; omega) fun H1 locs1 f1 f2 f3 f4 f5 => ?_
  rw [it_mdl_t.1, it_mdl_t.2]
  rw [it_mdl_t.1] at f1
  rw [hsz] at f1 f2 f3 f4
  exact kk H1 locs1 (by omega) ⟨_, _, _, ty, j1, j2, f3, f2⟩ (fun q hq => f4 q (by omega) (by omega)) f5

/-! B, the pure part: helpers -/
theorem ck_ok {ρ : Type} {i n : Int} (k : Option ρ) (h : 0 ≤ i ∧ i < n) : ga_ck i n k = k := if_pos h
theorem nn_ok {ρ : Type} {n : Int} (k : Option ρ) (h : 0 ≤ n) : ga_nn n k = k := if_pos h
theorem nz_ok {ρ : Type} {n : Int} (k : Option ρ) (h : n ≠ 0) : ga_nz n k = k := if_neg h
theorem z1_ok {ρ : Type} {n : Int} (k : Option ρ) (h : n = 0 ∨ n = 1) : ga_01 n k = k := if_pos h
theorem w32_ok {x : Int} (h : -2147483648 ≤ x ∧ x < 2147483648) : w32 x = x := by unfold w32; omega
theorem w8_ok {x : Int} (h : -128 ≤ x ∧ x < 128) : w8 x = x := by unfold w8; omega
theorem w8_r (x : Int) : -128 ≤ w8 x ∧ w8 x < 128 := by unfold w8; omega
theorem w8_w8 (x : Int) : w8 (w8 x) = w8 x := w8_ok (w8_r x)
theorem up_eq (σ : ga_S) (F : Nat) (n i v : Int) : ga_up σ F n i v F n i = v := if_pos ⟨rfl, rfl, rfl⟩
theorem up_F {F F' : Nat} (h : F' ≠ F) (σ : ga_S) (n i v : Int) : ga_up σ F n i v F' = σ F' := by
  funext n' i'
  exact if_neg (fun z => h z.1)
theorem up_n {n n' : Int} (h : n' ≠ n) (σ : ga_S) (F : Nat) (i v : Int) : ga_up σ F n i v F n' = σ F n' := by
  funext i'
  exact if_neg (fun z => h z.2.1)
theorem up_i {i i' : Int} (h : i' ≠ i) (σ : ga_S) (F : Nat) (n v : Int) : ga_up σ F n i v F n i' = σ F n i' := if_neg (fun z => h z.2.2)
theorem up_at (σ : ga_S) (F : Nat) (n i v i' : Int) : ga_up σ F n i v F n i' = if i' = i then v else σ F n i' := by
  unfold ga_up
  by_cases h : i' = i
  · rw [if_pos ⟨rfl, rfl, h⟩, if_pos h]
  · rw [if_neg (fun z => h z.2.2), if_neg h]
theorem up_nat (σ : ga_S) (F : Nat) (n i v n' i' : Int) : ga_up σ F n i v F n' i' = if n' = n ∧ i' = i then v else σ F n' i' := by
  unfold ga_up
  by_cases h : n' = n ∧ i' = i
  · rw [if_pos ⟨rfl, h⟩, if_pos h]
  · rw [if_neg (fun z => h z.2), if_neg h]
/-- a truth value as a number -/
def b2i (b : Bool) : Int := bif b then 1 else 0
theorem b2i_01 (b : Bool) : b2i b = 0 ∨ b2i b = 1 := by cases b <;> simp [b2i]
theorem b2i_t : b2i true = 1 := rfl
theorem b2i_f : b2i false = 0 := rfl
theorem b2i_n : ¬ b2i true = 0 := by decide
theorem b2i_0 (b : Bool) : (b2i b = 0) = (b = false) := by cases b <;> simp [b2i]
theorem b2i_1 (b : Bool) : (b2i b = 1) = (b = true) := by cases b <;> simp [b2i]
theorem b2i_or (a b : Bool) : ga_ior (b2i a) (b2i b) = b2i (a || b) := by cases a <;> cases b <;> decide
theorem b2i_inj {a b : Bool} (h : b2i a = b2i b) : a = b := by cases a <;> cases b <;> simp_all [b2i]
/-- what isn't listed is as it was -/
def fr (L : List Nat) (σ σ' : ga_S) : Prop := ∀ F, F ∉ L → σ' F = σ F
theorem fr_refl (L : List Nat) (σ : ga_S) : fr L σ σ := fun _ _ => rfl
theorem fr_trans {L : List Nat} {σ σ1 σ2 : ga_S} (h1 : fr L σ σ1) (h2 : fr L σ1 σ2) : fr L σ σ2 := fun F h => (h2 F h).trans (h1 F h)
theorem fr_up {L : List Nat} {F : Nat} (h : F ∈ L) (σ : ga_S) (n i v : Int) : fr L σ (ga_up σ F n i v) := fun F' h' => up_F (F := F) (F' := F') (fun e => h' (by rw [e]; exact h)) σ n i v
theorem fr_u {L : List Nat} {F : Nat} {σ : ga_S} {n i v : Int} (h : F ∈ L) : fr L σ (ga_up σ F n i v) := fr_up h σ n i v
theorem fr_sub {L L' : List Nat} {σ σ' : ga_S} (h : fr L σ σ') (hs : ∀ F, F ∈ L → F ∈ L') : fr L' σ σ' := fun F hF => h F (fun z => hF (hs F z))
/-! chains of kinds -/
def chn (P : Int → Int) : Nat → Int → List Int
  | 0, _ => []
  | m + 1, k => if k < 0 then [] else k :: chn P m (P k)
/-- a kind, the one above it, and so on -/
def CH (P : Int → Int) (k : Int) : List Int := chn P 17 k
def FO (P : Int → Int) (n : Int) : Prop := n ≤ 16 ∧ ∀ k, 0 ≤ k → k < n → -1 ≤ P k ∧ P k < k
theorem FO_ind {P : Int → Int} {n : Int} (hF : FO P n) {Q : Int → Prop} (h0 : Q (-1)) (hs : ∀ k, 0 ≤ k → k < n → Q (P k) → Q k) : ∀ k, -1 ≤ k → k < n → Q k := by
  have main : ∀ (m : Nat) (k : Int), -1 ≤ k → k < n → k < m → Q k := by
    intro m
    induction m with
    | zero =>
      intro k h1 h2 h3
      have e : k = -1 := by omega
      rw [e]; exact h0
    | succ m ih =>
      intro k h1 h2 h3
      by_cases e : k = -1
      · rw [e]; exact h0
      · have b := hF.2 k (by omega) h2
        exact hs k (by omega) h2 (ih (P k) b.1 (by omega) (by omega))
  intro k h1 h2
  exact main (k + 1).toNat k h1 h2 (by omega)
theorem chn_neg (P : Int → Int) (m : Nat) {k : Int} (h : k < 0) : chn P m k = [] := by
  cases m with
  | zero => rfl
  | succ m => simp only [chn, h, ↓reduceIte]
theorem chn_fuel {P : Int → Int} {n : Int} (hF : FO P n) : ∀ (m m' : Nat) (k : Int), k < n → k < m → k < m' → chn P m k = chn P m' k := by
  intro m
  induction m with
  | zero =>
    intro m' k h1 h2 h3
    rw [chn_neg P m' (by omega)]; rfl
  | succ m ih =>
    intro m' k h1 h2 h3
    by_cases h : k < 0
    · rw [chn_neg P _ h, chn_neg P _ h]
    · cases m' with
      | zero => omega
      | succ m' =>
        have b := hF.2 k (by omega) h1
        simp only [chn, h, ↓reduceIte]
        rw [ih m' (P k) (by omega) (by omega) (by omega)]
theorem CH_neg (P : Int → Int) {k : Int} (h : k < 0) : CH P k = [] := chn_neg P 17 h
theorem CH_s {P : Int → Int} {n : Int} (hF : FO P n) {k : Int} (h0 : 0 ≤ k) (h1 : k < n) : CH P k = k :: CH P (P k) := by
  have b := hF.2 k h0 h1
  have h16 := hF.1
  have hk : ¬ k < 0 := by omega
  have e : chn P (16 + 1) k = k :: chn P 16 (P k) := by
    show (if k < 0 then [] else k :: chn P 16 (P k)) = _
    rw [if_neg hk]
  show chn P (16 + 1) k = k :: chn P 17 (P k)
  rw [e, chn_fuel hF 16 17 (P k) (by omega) (by omega) (by omega)]
theorem CH_mem {P : Int → Int} {n : Int} (hF : FO P n) : ∀ k, -1 ≤ k → k < n → ∀ x, x ∈ CH P k → 0 ≤ x ∧ x ≤ k := by
  refine FO_ind hF ?_ ?_
  · intro x hx; rw [CH_neg P (by omega)] at hx; cases hx
  · intro k h0 h1 ih x hx
    have b := hF.2 k h0 h1
    rw [CH_s hF h0 h1] at hx
    rcases List.mem_cons.mp hx with e | e
    · omega
    · have := ih x e; omega
theorem CH_len {P : Int → Int} {n : Int} (hF : FO P n) : ∀ k, -1 ≤ k → k < n → ((CH P k).length : Int) ≤ k + 1 := by
  refine FO_ind hF ?_ ?_
  · rw [CH_neg P (by omega)]; simp
  · intro k h0 h1 ih
    have b := hF.2 k h0 h1
    rw [CH_s hF h0 h1, List.length_cons]; omega
theorem FO_congr {P P' : Int → Int} {n : Int} (hF : FO P n) (h : ∀ k, 0 ≤ k → k < n → P' k = P k) : FO P' n := ⟨hF.1, fun k h0 h1 => by rw [h k h0 h1]; exact hF.2 k h0 h1⟩
theorem CH_congr {P P' : Int → Int} {n : Int} (hF : FO P n) (h : ∀ k, 0 ≤ k → k < n → P' k = P k) : ∀ k, -1 ≤ k → k < n → CH P' k = CH P k := by
  refine FO_ind hF ?_ ?_
  · rw [CH_neg P (by omega), CH_neg P' (by omega)]
  · intro k h0 h1 ih
    rw [CH_s hF h0 h1, CH_s (FO_congr hF h) h0 h1, h k h0 h1, ih]
/-- whether a kind is another one or below it -/
def isB (P : Int → Int) (k a : Int) : Bool := decide (a ∈ CH P k)
theorem isB_s {P : Int → Int} {n : Int} (hF : FO P n) {k : Int} (a : Int) (h0 : 0 ≤ k) (h1 : k < n) : isB P k a = (decide (k = a) || isB P (P k) a) := by
  unfold isB
  rw [CH_s hF h0 h1]
  by_cases e : k = a
  · simp [e]
  · have e' : ¬ a = k := fun z => e z.symm
    simp [e, e']
theorem isB_n (P : Int → Int) {k : Int} (a : Int) (h : k < 0) : isB P k a = false := by
  unfold isB; rw [CH_neg P h]; simp

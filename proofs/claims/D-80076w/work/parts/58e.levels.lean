/-! every method's contract -/
theorem am_CT {E : ga_E} {cnt : Nat → Nat} {U0 : State} {D : va_G} {l : Launch} (hin : ∀ c n c' n' : Nat, n < cnt c → n' < cnt c' → E.1 c n = E.1 c' n' → c = c' ∧ n = n') (hcnt : ∀ c, 179 ≤ c → cnt c = 0) (h8 : cnt 8 = 64) (d j : Nat) (vs : List ga_V) (σ : ga_S) (q : ga_R) (hj : j < 377) (h : ga_run am_G am_tab am_prim d j vs σ = some q) :
    ga_CT (am_YS E cnt U0) (am_Sx E cnt U0 D) am_mi l j (am_tab j).2.2.1 vs σ q d :=
  (ga_levels (Y := am_YS E cnt U0) (am_TB hin hcnt) am_SS am_SX (am_Sp h8) am_MO am_hpm (am_hprim (am_TB hin hcnt) h8) d).2.2 j vs σ q hj h

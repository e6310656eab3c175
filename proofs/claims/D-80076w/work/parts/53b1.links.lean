/-! links and methods, by program -/
theorem am_fl_ok_x : fl_x.all (am_ckFL "RuleSentences") = true := by decide +kernel
theorem am_gs_ok_x : gs_x.all (am_ckGS "RuleSentences") = true := by decide +kernel
theorem am_lc_ok_x : lc_x.all (am_ckLC "RuleSentences") = true := by decide +kernel
theorem am_ml_ok_x : ml_x.all (am_ckML "RuleSentences") = true := by decide +kernel
theorem am_fl_ok_w : fl_w.all (am_ckFL "RuleSentences$World") = true := by decide +kernel
theorem am_gs_ok_w : gs_w.all (am_ckGS "RuleSentences$World") = true := by decide +kernel
theorem am_lc_ok_w : lc_w.all (am_ckLC "RuleSentences$World") = true := by decide +kernel
theorem am_ml_ok_w : ml_w.all (am_ckML "RuleSentences$World") = true := by decide +kernel
theorem am_fl_ok_d : fl_d.all (am_ckFL "RuleSentences$Words") = true := by decide +kernel
theorem am_gs_ok_d : gs_d.all (am_ckGS "RuleSentences$Words") = true := by decide +kernel
theorem am_lc_ok_d : lc_d.all (am_ckLC "RuleSentences$Words") = true := by decide +kernel
theorem am_ml_ok_d : ml_d.all (am_ckML "RuleSentences$Words") = true := by decide +kernel
theorem am_fl_ok_t : fl_t.all (am_ckFL "RuleSentences$Tokens") = true := by decide +kernel
theorem am_gs_ok_t : gs_t.all (am_ckGS "RuleSentences$Tokens") = true := by decide +kernel
theorem am_lc_ok_t : lc_t.all (am_ckLC "RuleSentences$Tokens") = true := by decide +kernel
theorem am_ml_ok_t : ml_t.all (am_ckML "RuleSentences$Tokens") = true := by decide +kernel

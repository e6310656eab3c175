/-! links and methods, by program -/
theorem am_fl_ok_m : fl_m.all (am_ckFL "RuleSentencesModel") = true := by decide +kernel
theorem am_gs_ok_m : gs_m.all (am_ckGS "RuleSentencesModel") = true := by decide +kernel
theorem am_lc_ok_m : lc_m.all (am_ckLC "RuleSentencesModel") = true := by decide +kernel
theorem am_ml_ok_m : ml_m.all (am_ckML "RuleSentencesModel") = true := by decide +kernel
